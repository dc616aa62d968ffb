theorem zn_X1_limits : zN yX1_limits 4 := by decide +kernel
set_option maxHeartbeats 4000000 in
theorem ct_X1_limits (l : Launch) (hl0 : l.stackTraces = false) (g : zG) (A : Nat → Prop) (S : zS) (X : zX) (T : zT) (hY : zSy S g X T) (kd a b d : Int32) : vx_Met l yX1_limits (ws_ yX1_limits cX1_limits 6 (some .int)) (zR 7 1 6) (zP [.ref (S.A 0), .int kd, .int a, .int b, .int d] g A (zTH g A T)) (va_Qi (fun rz_ (T1 : zT) => (rz_ = (m_limits X kd a b d).1 ∧ (m_limits X kd a b d).2 0 0 = 0) ∧ zSy S g (m_limits X kd a b d).2 T1) (fun T1 t => zTH g A T1 t.heap) A) (zXC (fun E => (E = xIA ∧ (m_limits X kd a b d).2 0 0 = 1)) g A T) 1 6 A := by
  refine zb_xmet (by decide) (Nat.le_of_ble_eq_true rfl) ?_
  intro p e s m args below meth c ls hx hb hr hml hown hts hlocks hnm hK hT ha_ hl hout
  have hown : s.vm.findClass RX1 = some m.cls := hown
  have hS : va_S A s.heap s.heap [] := va_S.rf
  have hl : lv_has ls 6 [(0, .ref (S.A 0)), (1, .int kd), (2, .int a), (3, .int b), (4, .int d)] := hl
  refine lv_iload_n hx hb dX1_limits_0 rfl (lv_at hl 1 rfl) ?_
  refine lv_iconst (v := 0) hx hb dX1_limits_1 (by decide) ?_
  refine lv_iconst (v := 4) hx hb dX1_limits_2 (by decide) ?_
  refine zc_i (zr_S (As := [.int kd, .int 0, .int 4]) (rest := []) ⟨hx, hb, hml, hown, hts⟩ (ct_X1_in l g A (zTH g A _) kd 0 4) zn_X1_in (lw_S q262 q263 q39 q264) (by decide) (by decide) hK (fun _ h => h) hS hT rfl hl.1 (Nat.le_of_ble_eq_true rfl) dX1_limits_3 ⟨by show _ + 0 ≤ _; omega, by show _ + 0 ≤ _; omega⟩) hS (fun _ h => h) (fun r _ H locs hr1 hT _ _ hS => ?_)
  subst hr1
  refine zl_ifeq (tgt := 44) hx hb dX1_limits_6 (by decide) (fun c_1 => ?_) (fun c_1 => ?_)
  · refine lv_iconst (v := 0) hx hb dX1_limits_44 (by decide) ?_
    refine zm_topi (y := zb false) rfl ?_
    refine zxc_v (zxr_S (As := [.int (zb false)]) (rest := []) ⟨hx, hb, hml, hown, hts⟩ (ct_X1_need l hl0 g A _ false) zn_X1_need (lw_S q265 q266 q39 q267) (by decide) (by decide) hK (fun _ h => h) hS hT rfl hl.1 (Nat.le_of_ble_eq_true rfl) dX1_limits_45 ⟨by show _ + 1 ≤ _; omega, by show _ + 6 ≤ _; omega⟩) hS hout hlocks (fun E hE => by obtain ⟨rfl, h0⟩ := hE; exact ⟨rfl, by unfold m_limits; first | exact absurd h0 (by decide) | (simp [zu, h0, c_1]; done) | (fail)⟩) (by show _ + 1 ≤ 1; omega) (by show _ + 6 ≤ 6; omega) (fun _ H locs hx_2 hT _ _ hS => ?_)
    cases hx_2
  · refine lv_iload_n hx hb dX1_limits_9 rfl (lv_at hl 2 rfl) ?_
    refine lv_iconst (v := 0) hx hb dX1_limits_10 (by decide) ?_
    refine lv_ldc (v := 99999) hx hb hown (hts _ q473) dX1_limits_11 ?_
    refine zc_i (zr_S (As := [.int a, .int 0, .int 99999]) (rest := []) ⟨hx, hb, hml, hown, hts⟩ (ct_X1_in l g A (zTH g A _) a 0 99999) zn_X1_in (lw_S q262 q263 q39 q264) (by decide) (by decide) hK (fun _ h => h) hS hT rfl hl.1 (Nat.le_of_ble_eq_true rfl) dX1_limits_13 ⟨by show _ + 0 ≤ _; omega, by show _ + 0 ≤ _; omega⟩) hS (fun _ h => h) (fun r _ H locs hr1 hT _ _ hS => ?_)
    subst hr1
    refine zl_ifeq (tgt := 44) hx hb dX1_limits_16 (by decide) (fun c_3 => ?_) (fun c_3 => ?_)
    · refine lv_iconst (v := 0) hx hb dX1_limits_44 (by decide) ?_
      refine zm_topi (y := zb false) rfl ?_
      refine zxc_v (zxr_S (As := [.int (zb false)]) (rest := []) ⟨hx, hb, hml, hown, hts⟩ (ct_X1_need l hl0 g A _ false) zn_X1_need (lw_S q265 q266 q39 q267) (by decide) (by decide) hK (fun _ h => h) hS hT rfl hl.1 (Nat.le_of_ble_eq_true rfl) dX1_limits_45 ⟨by show _ + 1 ≤ _; omega, by show _ + 6 ≤ _; omega⟩) hS hout hlocks (fun E hE => by obtain ⟨rfl, h0⟩ := hE; exact ⟨rfl, by unfold m_limits; first | exact absurd h0 (by decide) | (simp [zu, h0, c_1, c_3]; done) | (fail)⟩) (by show _ + 1 ≤ 1; omega) (by show _ + 6 ≤ 6; omega) (fun _ H locs hx_4 hT _ _ hS => ?_)
      cases hx_4
    · refine lv_iload_n hx hb dX1_limits_19 rfl (lv_at hl 3 rfl) ?_
      refine lv_iconst (v := 0) hx hb dX1_limits_20 (by decide) ?_
      refine lv_ldc (v := 99999) hx hb hown (hts _ q473) dX1_limits_21 ?_
      refine zc_i (zr_S (As := [.int b, .int 0, .int 99999]) (rest := []) ⟨hx, hb, hml, hown, hts⟩ (ct_X1_in l g A (zTH g A _) b 0 99999) zn_X1_in (lw_S q262 q263 q39 q264) (by decide) (by decide) hK (fun _ h => h) hS hT rfl hl.1 (Nat.le_of_ble_eq_true rfl) dX1_limits_23 ⟨by show _ + 0 ≤ _; omega, by show _ + 0 ≤ _; omega⟩) hS (fun _ h => h) (fun r _ H locs hr1 hT _ _ hS => ?_)
      subst hr1
      refine zl_ifeq (tgt := 44) hx hb dX1_limits_26 (by decide) (fun c_5 => ?_) (fun c_5 => ?_)
      · refine lv_iconst (v := 0) hx hb dX1_limits_44 (by decide) ?_
        refine zm_topi (y := zb false) rfl ?_
        refine zxc_v (zxr_S (As := [.int (zb false)]) (rest := []) ⟨hx, hb, hml, hown, hts⟩ (ct_X1_need l hl0 g A _ false) zn_X1_need (lw_S q265 q266 q39 q267) (by decide) (by decide) hK (fun _ h => h) hS hT rfl hl.1 (Nat.le_of_ble_eq_true rfl) dX1_limits_45 ⟨by show _ + 1 ≤ _; omega, by show _ + 6 ≤ _; omega⟩) hS hout hlocks (fun E hE => by obtain ⟨rfl, h0⟩ := hE; exact ⟨rfl, by unfold m_limits; first | exact absurd h0 (by decide) | (simp [zu, h0, c_1, c_3, c_5]; done) | (fail)⟩) (by show _ + 1 ≤ 1; omega) (by show _ + 6 ≤ 6; omega) (fun _ H locs hx_6 hT _ _ hS => ?_)
        cases hx_6
      · refine lv_iload hx hb dX1_limits_29 (lv_at hl 4 rfl) ?_
        refine lv_iconst (v := 0) hx hb dX1_limits_31 (by decide) ?_
        refine lv_ldc (v := 99999) hx hb hown (hts _ q473) dX1_limits_32 ?_
        refine zc_i (zr_S (As := [.int d, .int 0, .int 99999]) (rest := []) ⟨hx, hb, hml, hown, hts⟩ (ct_X1_in l g A (zTH g A _) d 0 99999) zn_X1_in (lw_S q262 q263 q39 q264) (by decide) (by decide) hK (fun _ h => h) hS hT rfl hl.1 (Nat.le_of_ble_eq_true rfl) dX1_limits_34 ⟨by show _ + 0 ≤ _; omega, by show _ + 0 ≤ _; omega⟩) hS (fun _ h => h) (fun r _ H locs hr1 hT _ _ hS => ?_)
        subst hr1
        refine zl_ifeq (tgt := 44) hx hb dX1_limits_37 (by decide) (fun c_7 => ?_) (fun c_7 => ?_)
        · refine lv_iconst (v := 0) hx hb dX1_limits_44 (by decide) ?_
          refine zm_topi (y := zb false) rfl ?_
          refine zxc_v (zxr_S (As := [.int (zb false)]) (rest := []) ⟨hx, hb, hml, hown, hts⟩ (ct_X1_need l hl0 g A _ false) zn_X1_need (lw_S q265 q266 q39 q267) (by decide) (by decide) hK (fun _ h => h) hS hT rfl hl.1 (Nat.le_of_ble_eq_true rfl) dX1_limits_45 ⟨by show _ + 1 ≤ _; omega, by show _ + 6 ≤ _; omega⟩) hS hout hlocks (fun E hE => by obtain ⟨rfl, h0⟩ := hE; exact ⟨rfl, by unfold m_limits; first | exact absurd h0 (by decide) | (simp [zu, h0, c_1, c_3, c_5, c_7]; done) | (fail)⟩) (by show _ + 1 ≤ 1; omega) (by show _ + 6 ≤ 6; omega) (fun _ H locs hx_8 hT _ _ hS => ?_)
          cases hx_8
        · refine lv_iconst (v := 1) hx hb dX1_limits_40 (by decide) ?_
          refine lv_goto (tgt := 45) hx hb dX1_limits_41 (by decide) ?_
          refine zm_topi (y := zb true) rfl ?_
          refine zxc_v (zxr_S (As := [.int (zb true)]) (rest := []) ⟨hx, hb, hml, hown, hts⟩ (ct_X1_need l hl0 g A _ true) zn_X1_need (lw_S q265 q266 q39 q267) (by decide) (by decide) hK (fun _ h => h) hS hT rfl hl.1 (Nat.le_of_ble_eq_true rfl) dX1_limits_45 ⟨by show _ + 1 ≤ _; omega, by show _ + 6 ≤ _; omega⟩) hS hout hlocks (fun E hE => by obtain ⟨rfl, h0⟩ := hE; exact ⟨rfl, by unfold m_limits; first | exact absurd h0 (by decide) | (simp [zu, h0, c_1, c_3, c_5, c_7]; done) | (fail)⟩) (by show _ + 1 ≤ 1; omega) (by show _ + 6 ≤ 6; omega) (fun _ H locs hx_9 hT _ _ hS => ?_)
          refine lv_aload_n hx hb dX1_limits_48 rfl (lv_at hl 0 rfl) ?_
          refine zt_get hx hb hts in_X1 hown hK.1 hT hY.w rfl 1 (by decide) (hts _ q178) (fun _ h => h) rfl dX1_limits_49 ?_
          refine lv_iload_n hx hb dX1_limits_52 rfl (lv_at hl 1 rfl) ?_
          obtain ⟨hv1, hv2⟩ := zin_c (b := 4) rfl c_1
          refine zm_topi (y := nI kd.toNatClampNeg) hv1 ?_
          refine zt_ild (k := kd.toNatClampNeg) hx hb hK.1 hT hY.a3 (by omega) (by omega) dX1_limits_53 ?_
          refine lv_istore (lv' := [(5, .int (X 20 kd.toNatClampNeg)), (0, .ref (S.A 0)), (1, .int kd), (2, .int a), (3, .int b), (4, .int d)]) hx hb dX1_limits_54 hl (by decide) rfl (fun ls hl => ?_)
          refine lv_aload_n hx hb dX1_limits_56 rfl (lv_at hl 1 rfl) ?_
          refine zt_get hx hb hts in_X1 hown hK.1 hT hY.w rfl 1 (by decide) (hts _ q178) (fun _ h => h) rfl dX1_limits_57 ?_
          refine lv_iload_n hx hb dX1_limits_60 rfl (lv_at hl 2 rfl) ?_
          refine zm_topi (y := nI kd.toNatClampNeg) hv1 ?_
          refine lv_iload_n hx hb dX1_limits_61 rfl (lv_at hl 3 rfl) ?_
          refine zt_ist (k := kd.toNatClampNeg) hx hb hK.1 hT hS hY.a3 (by omega) (by decide) dX1_limits_62 (fun H locs hT hS => ?_)
          obtain ⟨T, hT, hY⟩ : ∃ T1, zTH g A T1 H ∧ zSy S g (zu X 20 kd.toNatClampNeg a) T1 := ⟨_, hT, hY.lim 20 (by decide) kd.toNatClampNeg a⟩
          refine lv_aload_n hx hb dX1_limits_63 rfl (lv_at hl 1 rfl) ?_
          refine zt_get hx hb hts in_X1 hown hK.1 hT hY.w rfl 2 (by decide) (hts _ q179) (fun _ h => h) rfl dX1_limits_64 ?_
          refine lv_iload_n hx hb dX1_limits_67 rfl (lv_at hl 2 rfl) ?_
          refine zm_topi (y := nI kd.toNatClampNeg) hv1 ?_
          refine lv_iload_n hx hb dX1_limits_68 rfl (lv_at hl 4 rfl) ?_
          refine zt_ist (k := kd.toNatClampNeg) hx hb hK.1 hT hS hY.a4 (by omega) (by decide) dX1_limits_69 (fun H locs hT hS => ?_)
          obtain ⟨T, hT, hY⟩ : ∃ T1, zTH g A T1 H ∧ zSy S g (zu (zu X 20 kd.toNatClampNeg a) 21 kd.toNatClampNeg b) T1 := ⟨_, hT, hY.lim 21 (by decide) kd.toNatClampNeg b⟩
          refine lv_aload_n hx hb dX1_limits_70 rfl (lv_at hl 1 rfl) ?_
          refine zt_get hx hb hts in_X1 hown hK.1 hT hY.w rfl 3 (by decide) (hts _ q180) (fun _ h => h) rfl dX1_limits_71 ?_
          refine lv_iload_n hx hb dX1_limits_74 rfl (lv_at hl 2 rfl) ?_
          refine zm_topi (y := nI kd.toNatClampNeg) hv1 ?_
          refine lv_iload hx hb dX1_limits_75 (lv_at hl 5 rfl) ?_
          refine zt_ist (k := kd.toNatClampNeg) hx hb hK.1 hT hS hY.a5 (by omega) (by decide) dX1_limits_77 (fun H locs hT hS => ?_)
          obtain ⟨T, hT, hY⟩ : ∃ T1, zTH g A T1 H ∧ zSy S g (zu (zu (zu X 20 kd.toNatClampNeg a) 21 kd.toNatClampNeg b) 22 kd.toNatClampNeg d) T1 := ⟨_, hT, hY.lim 22 (by decide) kd.toNatClampNeg d⟩
          refine lv_iload hx hb dX1_limits_78 (lv_at hl 0 rfl) ?_
          have hY0 := hY.hid 0 0 0 (Or.inl rfl)
          rw [zu_comm _ (show (22 : Nat) ≠ 0 by decide), zu_comm _ (show (21 : Nat) ≠ 0 by decide), zu_comm _ (show (20 : Nat) ≠ 0 by decide)] at hY0
          have e1 : m_limits X kd a b d = (X 20 kd.toNatClampNeg, zu (zu (zu (zu X 0 0 0) 20 kd.toNatClampNeg a) 21 kd.toNatClampNeg b) 22 kd.toNatClampNeg d) := by simp [m_limits, c_1, c_3, c_5, c_7, hx_9]
          exact vx_ret (ze_i hx hb hr hlocks hS dX1_limits_80 (by show _ ≤ 1; omega) (by show _ ≤ 6; omega) T (by rw [e1]; exact ⟨⟨rfl, by simp [zu]⟩, hY0⟩) hT)
theorem zn_X1_gate : zN yX1_gate 2 := by decide +kernel
set_option maxHeartbeats 4000000 in
theorem ct_X1_gate (l : Launch) (hl0 : l.stackTraces = false) (g : zG) (A : Nat → Prop) (S : zS) (X : zX) (T : zT) (hY : zSy S g X T) (hI : MH X) (x er : Int32) : vx_Met l yX1_gate (ws_ yX1_gate cX1_gate 4 (some .int)) (zR 9 3 18) (zP [.ref (S.A 0), .int x, .int er] g A (zTH g A T)) (va_Qi (fun rz_ (T1 : zT) => (rz_ = (m_gate X x er).1 ∧ (m_gate X x er).2 0 0 = 0) ∧ zSy S g (m_gate X x er).2 T1) (fun T1 t => zTH g A T1 t.heap) A) (zXC (fun E => (E = xIO ∧ (m_gate X x er).2 0 0 = 1) ∨ (E = xIA ∧ (m_gate X x er).2 0 0 = 2)) g A T) 3 18 A := by
  refine zb_xmet (by decide) (Nat.le_of_ble_eq_true rfl) ?_
  intro p e s m args below meth c ls hx hb hr hml hown hts hlocks hnm hK hT ha_ hl hout
  have hown : s.vm.findClass RX1 = some m.cls := hown
  have hS : va_S A s.heap s.heap [] := va_S.rf
  have hl : lv_has ls 4 [(0, .ref (S.A 0)), (1, .int x), (2, .int er)] := hl
  refine lv_aload_n hx hb dX1_gate_0 rfl (lv_at hl 0 rfl) ?_
  refine lv_iload_n hx hb dX1_gate_1 rfl (lv_at hl 1 rfl) ?_
  refine lv_iconst (v := 3) hx hb dX1_gate_2 (by decide) ?_
  refine zxc_q (zxr_V (As := [.int x, .int 3]) (rest := []) ⟨hx, hb, hml, hown, hts⟩ (ct_X1_needKind l hl0 g A S X _ hY hI x 3) zn_X1_needKind (lw_V q642 q644 qs9 q39 q645) rfl (by decide) (by decide) hK (fun _ h => h) hS hT (zt_recv hK.1 hT hY.w rfl) rfl hl.1 (Nat.le_of_ble_eq_true rfl) dX1_gate_3 ⟨by show _ + 2 ≤ _; omega, by show _ + 12 ≤ _; omega⟩) hS hout hlocks (fun E hE => by rcases hE with ⟨rfl, h0⟩ | ⟨rfl, h0, h1⟩; exact Or.inl ⟨rfl, by unfold m_gate; rw [if_pos (by rw [mKc_1 _ h0]; decide), mKc_1 _ h0]; exact zu_s X 0 0 1⟩; exact Or.inr (⟨rfl, by unfold m_gate; rw [if_pos (by rw [mKc_2 h0 h1]; decide), mKc_2 h0 h1]; exact zu_s X 0 0 2⟩)) (by show _ + 2 ≤ 3; omega) (by show _ + 12 ≤ 18; omega) (fun r _ H locs hr_1 hT _ _ hS => ?_)
  obtain ⟨rfl, hm_2, hk_3⟩ := hr_1
  obtain ⟨hq_4, hq_5⟩ := mIs_p hI hm_2
  have hkc : mKc X x 3 = 0 := mKc_0 hm_2 hk_3
  refine zm_top (v' := .ref (S.pa x.toNatClampNeg)) rfl ?_
  refine lv_astore_n (lv' := [(3, .ref (S.pa x.toNatClampNeg)), (0, .ref (S.A 0)), (1, .int x), (2, .int er)]) hx hb dX1_gate_6 rfl hl (by decide) rfl (fun ls hl => ?_)
  refine lv_iload_n hx hb dX1_gate_7 rfl (lv_at hl 3 rfl) ?_
  refine lv_bipush (v := (-5)) hx hb dX1_gate_8 (by decide) ?_
  refine lv_iconst (v := 5) hx hb dX1_gate_10 (by decide) ?_
  refine zc_i (zr_S (As := [.int er, .int (-5), .int 5]) (rest := []) ⟨hx, hb, hml, hown, hts⟩ (ct_X1_in l g A (zTH g A _) er (-5) 5) zn_X1_in (lw_S q262 q263 q39 q264) (by decide) (by decide) hK (fun _ h => h) hS hT rfl hl.1 (Nat.le_of_ble_eq_true rfl) dX1_gate_11 ⟨by show _ + 0 ≤ _; omega, by show _ + 0 ≤ _; omega⟩) hS (fun _ h => h) (fun r _ H locs hr1 hT _ _ hS => ?_)
  subst hr1
  refine zxc_v (zxr_S (As := [.int (zb (zin er (-5) 5))]) (rest := []) ⟨hx, hb, hml, hown, hts⟩ (ct_X1_need l hl0 g A _ (zin er (-5) 5)) zn_X1_need (lw_S q265 q266 q39 q267) (by decide) (by decide) hK (fun _ h => h) hS hT rfl hl.1 (Nat.le_of_ble_eq_true rfl) dX1_gate_14 ⟨by show _ + 1 ≤ _; omega, by show _ + 6 ≤ _; omega⟩) hS hout hlocks (fun E hE => by obtain ⟨rfl, h0⟩ := hE; exact Or.inr (⟨rfl, by unfold m_gate; first | exact absurd h0 (by decide) | (simp [zu, h0, hkc]; done) | (fail)⟩)) (by show _ + 1 ≤ 3; omega) (by show _ + 6 ≤ 18; omega) (fun _ H locs hx_6 hT _ _ hS => ?_)
  refine lv_aload_n hx hb dX1_gate_17 rfl (lv_at hl 0 rfl) ?_
  refine lv_aload_n hx hb dX1_gate_18 rfl (lv_at hl 0 rfl) ?_
  refine zt_getN hx hb hts in_X4 hown hK.1 hT (hY.p hq_5) rfl 15 (by decide) (va_Nw.use (A := args) rfl (hK.2.1.1 _ _ _ _ _ _ q412)) (fun _ h => h) rfl dX1_gate_19 ?_
  refine lv_iload_n hx hb dX1_gate_22 rfl (lv_at hl 3 rfl) ?_
  refine lv_iadd hx hb dX1_gate_23 ?_
  refine zt_putN hx hb hts in_X4 tyX4 tyX4_ok nmX4 hown hK.1 hT hS (hY.p hq_5) rfl 17 (by decide) (va_Nw.use (A := args) rfl (hK.2.1.1 _ _ _ _ _ _ q415)) (fun _ h => h) rfl (v := .int ((X 14 x.toNatClampNeg) + er)) (tyX4_ok 17 (by decide)) rfl rfl (show 17 < 20 from by decide) dX1_gate_24 (fun H locs hT hS => ?_)
  obtain ⟨T, hT, hY⟩ : ∃ T1, zTH g A T1 H ∧ zSy S g (zu (zu X 16 x.toNatClampNeg ((X 14 x.toNatClampNeg) + er)) 17 x.toNatClampNeg 1) T1 := ⟨_, hT, hY.gate hq_5 ((X 14 x.toNatClampNeg) + er) (by simp [zpF, zu])⟩
  refine lv_aload_n hx hb dX1_gate_27 rfl (lv_at hl 0 rfl) ?_
  refine zt_getN hx hb hts in_X4 hown hK.1 hT (hY.p hq_5) rfl 17 (by decide) (va_Nw.use (A := args) rfl (hK.2.1.1 _ _ _ _ _ _ q415)) (fun _ h => h) rfl dX1_gate_28 ?_
  refine zm_topi (y := X 14 x.toNatClampNeg + er) (by simp [zu]) ?_
  have hY0 := hY.hid 0 0 0 (Or.inl rfl)
  rw [zu_comm _ (show (17 : Nat) ≠ 0 by decide), zu_comm _ (show (16 : Nat) ≠ 0 by decide)] at hY0
  have e1 : m_gate X x er = (X 14 x.toNatClampNeg + er, zu (zu (zu X 0 0 0) 16 x.toNatClampNeg ((X 14 x.toNatClampNeg) + er)) 17 x.toNatClampNeg 1) := by simp [m_gate, hkc, hx_6]
  exact vx_ret (ze_i hx hb hr hlocks hS dX1_gate_31 (by show _ ≤ 3; omega) (by show _ ≤ 18; omega) T (by rw [e1]; exact ⟨⟨rfl, by simp [zu]⟩, hY0⟩) hT)
theorem zn_X1_examine : zN yX1_examine 1 := by decide +kernel
set_option maxHeartbeats 4000000 in
theorem ct_X1_examine (l : Launch) (hl0 : l.stackTraces = false) (g : zG) (A : Nat → Prop) (S : zS) (X : zX) (T : zT) (hY : zSy S g X T) (hI : MH X) (hz12 : ∀ p, X 12 p = 0 ∨ X 12 p = 1) (x : Int32) : vx_Met l yX1_examine (ws_ yX1_examine cX1_examine 5 (some .int)) (zR 8 2 12) (zP [.ref (S.A 0), .int x] g A (zTH g A T)) (va_Qi (fun rz_ (T1 : zT) => (rz_ = (m_examine X x).1 ∧ (m_examine X x).2 0 0 = 0) ∧ zSy S g (m_examine X x).2 T1) (fun T1 t => zTH g A T1 t.heap) A) (zXC (fun E => (E = xIO ∧ (m_examine X x).2 0 0 = 1) ∨ (E = xIS ∧ (m_examine X x).2 0 0 = 2)) g A T) 2 12 A := by
  refine zb_xmet (by decide) (Nat.le_of_ble_eq_true rfl) ?_
  intro p e s m args below meth c ls hx hb hr hml hown hts hlocks hnm hK hT ha_ hl hout
  have hown : s.vm.findClass RX1 = some m.cls := hown
  have hS : va_S A s.heap s.heap [] := va_S.rf
  have hl : lv_has ls 5 [(0, .ref (S.A 0)), (1, .int x)] := hl
  refine lv_aload_n hx hb dX1_examine_0 rfl (lv_at hl 0 rfl) ?_
  refine zt_get hx hb hts in_X1 hown hK.1 hT hY.w rfl 0 (by decide) (hts _ q177) (fun _ h => h) rfl dX1_examine_1 ?_
  refine lv_iload_n hx hb dX1_examine_4 rfl (lv_at hl 1 rfl) ?_
  refine zxc_q (zxr_V (As := [.int x]) (rest := []) ⟨hx, hb, hml, hown, hts⟩ (ct_X2_need l hl0 g A S X _ hY hI x) zn_X2_need (lw_V q514 q515 q516 q40 q517) rfl (by decide) (by decide) hK (fun _ h => h) hS hT (zt_recv hK.1 hT hY.rk rfl) rfl hl.1 (Nat.le_of_ble_eq_true rfl) dX1_examine_5 ⟨by show _ + 1 ≤ _; omega, by show _ + 6 ≤ _; omega⟩) hS hout hlocks (fun E hE => by obtain ⟨rfl, h0⟩ := hE; exact Or.inl ⟨rfl, by unfold m_examine; simp [zu, h0]⟩) (by show _ + 1 ≤ 2; omega) (by show _ + 6 ≤ 12; omega) (fun r _ H locs hr_1 hT _ _ hS => ?_)
  obtain ⟨rfl, hm_2⟩ := hr_1
  obtain ⟨hq_3, hq_4⟩ := mIs_p hI hm_2
  refine zm_top (v' := .ref (S.pa x.toNatClampNeg)) rfl ?_
  refine va_castS hx hb hown (hts _ q356) (hK.1.1 3 _ rfl).2 (zt_recv hK.1 hT (hY.p hq_4) (r := zCl[3]) rfl) dX1_examine_8 ?_
  refine lv_astore_n (lv' := [(2, .ref (S.pa x.toNatClampNeg)), (0, .ref (S.A 0)), (1, .int x)]) hx hb dX1_examine_11 rfl hl (by decide) rfl (fun ls hl => ?_)
  refine lv_aload_n hx hb dX1_examine_12 rfl (lv_at hl 1 rfl) ?_
  refine zt_get hx hb hts in_X1 hown hK.1 hT hY.w rfl 2 (by decide) (hts _ q179) (fun _ h => h) rfl dX1_examine_13 ?_
  refine lv_aload_n hx hb dX1_examine_16 rfl (lv_at hl 0 rfl) ?_
  refine zt_getN hx hb hts in_X4 hown hK.1 hT (hY.p hq_4) rfl 1 (by decide) (va_Nw.use (A := args) rfl (hK.2.1.1 _ _ _ _ _ _ q385)) (fun _ h => h) rfl dX1_examine_17 ?_
  refine zm_topi (y := nI (mK X x.toNatClampNeg)) ((hI.2.1 _ hq_4).1) ?_
  have hk4_ := (hI.2.1 _ hq_4).2
  refine zt_ild (k := mK X x.toNatClampNeg) hx hb hK.1 hT hY.a4 (by omega) (by omega) dX1_examine_20 ?_
  refine lv_istore_n (lv' := [(3, .int (X 21 (mK X x.toNatClampNeg))), (2, .ref (S.pa x.toNatClampNeg)), (0, .ref (S.A 0)), (1, .int x)]) hx hb dX1_examine_21 rfl hl (by decide) rfl (fun ls hl => ?_)
  refine lv_iload_n hx hb dX1_examine_22 rfl (lv_at hl 0 rfl) ?_
  refine lv_if_le (tgt := 62) hx hb dX1_examine_23 (by decide) (fun c_5 => ?_) (fun c_5 => ?_)
  · refine lv_iconst (v := 0) hx hb dX1_examine_62 (by decide) ?_
    refine zm_topi (y := zb false) rfl ?_
    refine zxc_v (zxr_S (As := [.int (zb false)]) (rest := []) ⟨hx, hb, hml, hown, hts⟩ (ct_X1_needState l hl0 g A _ false) zn_X1_needState (lw_S q338 q339 q39 q340) (by decide) (by decide) hK (fun _ h => h) hS hT rfl hl.1 (Nat.le_of_ble_eq_true rfl) dX1_examine_63 ⟨by show _ + 1 ≤ _; omega, by show _ + 6 ≤ _; omega⟩) hS hout hlocks (fun E hE => by obtain ⟨rfl, h0⟩ := hE; exact Or.inr (⟨rfl, by unfold m_examine; first | exact absurd h0 (by decide) | (simp [zu, h0, hm_2, c_5]; done) | (fail)⟩)) (by show _ + 1 ≤ 2; omega) (by show _ + 6 ≤ 12; omega) (fun _ H locs hx_6 hT _ _ hS => ?_)
    cases hx_6
  · refine lv_aload_n hx hb dX1_examine_26 rfl (lv_at hl 1 rfl) ?_
    refine zt_getN hx hb hts in_X4 hown hK.1 hT (hY.p hq_4) rfl 8 (by decide) (va_Nw.use (A := args) rfl (hK.2.1.1 _ _ _ _ _ _ q399)) (fun _ h => h) rfl dX1_examine_27 ?_
    refine lv_iload_n hx hb dX1_examine_30 rfl (lv_at hl 0 rfl) ?_
    refine lv_aload_n hx hb dX1_examine_31 rfl (lv_at hl 2 rfl) ?_
    refine zt_get hx hb hts in_X1 hown hK.1 hT hY.w rfl 3 (by decide) (hts _ q180) (fun _ h => h) rfl dX1_examine_32 ?_
    refine lv_aload_n hx hb dX1_examine_35 rfl (lv_at hl 1 rfl) ?_
    refine zt_getN hx hb hts in_X4 hown hK.1 hT (hY.p hq_4) rfl 1 (by decide) (va_Nw.use (A := args) rfl (hK.2.1.1 _ _ _ _ _ _ q385)) (fun _ h => h) rfl dX1_examine_36 ?_
    refine zm_topi (y := nI (mK X x.toNatClampNeg)) ((hI.2.1 _ hq_4).1) ?_
    have hk4_ := (hI.2.1 _ hq_4).2
    refine zt_ild (k := mK X x.toNatClampNeg) hx hb hK.1 hT hY.a5 (by omega) (by omega) dX1_examine_39 ?_
    refine lv_isub hx hb dX1_examine_40 ?_
    refine lv_icmp_lt (tgt := 62) hx hb dX1_examine_41 (by decide) (fun c_7 => ?_) (fun c_7 => ?_)
    · refine lv_iconst (v := 0) hx hb dX1_examine_62 (by decide) ?_
      refine zm_topi (y := zb false) rfl ?_
      refine zxc_v (zxr_S (As := [.int (zb false)]) (rest := []) ⟨hx, hb, hml, hown, hts⟩ (ct_X1_needState l hl0 g A _ false) zn_X1_needState (lw_S q338 q339 q39 q340) (by decide) (by decide) hK (fun _ h => h) hS hT rfl hl.1 (Nat.le_of_ble_eq_true rfl) dX1_examine_63 ⟨by show _ + 1 ≤ _; omega, by show _ + 6 ≤ _; omega⟩) hS hout hlocks (fun E hE => by obtain ⟨rfl, h0⟩ := hE; exact Or.inr (⟨rfl, by unfold m_examine; first | exact absurd h0 (by decide) | (simp [zu, h0, hm_2, c_5, c_7]; done) | (fail)⟩)) (by show _ + 1 ≤ 2; omega) (by show _ + 6 ≤ 12; omega) (fun _ H locs hx_8 hT _ _ hS => ?_)
      cases hx_8
    · refine lv_aload_n hx hb dX1_examine_44 rfl (lv_at hl 1 rfl) ?_
      refine zt_getN hx hb hts in_X4 hown hK.1 hT (hY.p hq_4) rfl 6 (by decide) (va_Nw.use (A := args) rfl (hK.2.1.1 _ _ _ _ _ _ q395)) (fun _ h => h) rfl dX1_examine_45 ?_
      refine zl_ifne (tgt := 62) hx hb dX1_examine_48 (by decide) (fun c_9 => ?_) (fun c_9 => ?_)
      · refine lv_iconst (v := 0) hx hb dX1_examine_62 (by decide) ?_
        refine zm_topi (y := zb false) rfl ?_
        refine zxc_v (zxr_S (As := [.int (zb false)]) (rest := []) ⟨hx, hb, hml, hown, hts⟩ (ct_X1_needState l hl0 g A _ false) zn_X1_needState (lw_S q338 q339 q39 q340) (by decide) (by decide) hK (fun _ h => h) hS hT rfl hl.1 (Nat.le_of_ble_eq_true rfl) dX1_examine_63 ⟨by show _ + 1 ≤ _; omega, by show _ + 6 ≤ _; omega⟩) hS hout hlocks (fun E hE => by obtain ⟨rfl, h0⟩ := hE; exact Or.inr (⟨rfl, by unfold m_examine; first | exact absurd h0 (by decide) | (simp [zu, h0, hm_2, c_5, c_7, of_decide_eq_true c_9]; done) | (fail)⟩)) (by show _ + 1 ≤ 2; omega) (by show _ + 6 ≤ 12; omega) (fun _ H locs hx_10 hT _ _ hS => ?_)
        cases hx_10
      · refine lv_aload_n hx hb dX1_examine_51 rfl (lv_at hl 1 rfl) ?_
        refine zc_i (zr_V (As := []) (rest := []) ⟨hx, hb, hml, hown, hts⟩ (ct_X4_isBound l g A S X _ hY hI x.toNatClampNeg hq_4 hz12) zn_X4_isBound (lw_V q547 q548 q549 q54 q550) rfl (by decide) (by decide) hK (fun _ h => h) hS hT (zt_recv hK.1 hT (hY.p hq_4) rfl) rfl hl.1 (Nat.le_of_ble_eq_true rfl) dX1_examine_52 ⟨by show _ + 0 ≤ _; omega, by show _ + 0 ≤ _; omega⟩) hS (fun _ h => h) (fun r _ H locs hr_11 hT _ _ hS => ?_)
        subst hr_11
        refine lv_if_ne (tgt := 62) hx hb dX1_examine_55 (by decide) (fun c_12 => ?_) (fun c_12 => ?_)
        · refine lv_iconst (v := 0) hx hb dX1_examine_62 (by decide) ?_
          refine zm_topi (y := zb false) rfl ?_
          refine zxc_v (zxr_S (As := [.int (zb false)]) (rest := []) ⟨hx, hb, hml, hown, hts⟩ (ct_X1_needState l hl0 g A _ false) zn_X1_needState (lw_S q338 q339 q39 q340) (by decide) (by decide) hK (fun _ h => h) hS hT rfl hl.1 (Nat.le_of_ble_eq_true rfl) dX1_examine_63 ⟨by show _ + 1 ≤ _; omega, by show _ + 6 ≤ _; omega⟩) hS hout hlocks (fun E hE => by obtain ⟨rfl, h0⟩ := hE; exact Or.inr (⟨rfl, by unfold m_examine; first | exact absurd h0 (by decide) | (simp [zu, h0, hm_2, c_5, c_7, of_decide_eq_false c_9, c_12]; done) | (fail)⟩)) (by show _ + 1 ≤ 2; omega) (by show _ + 6 ≤ 12; omega) (fun _ H locs hx_13 hT _ _ hS => ?_)
          cases hx_13
        · refine lv_iconst (v := 1) hx hb dX1_examine_58 (by decide) ?_
          refine lv_goto (tgt := 63) hx hb dX1_examine_59 (by decide) ?_
          refine zm_topi (y := zb true) rfl ?_
          refine zxc_v (zxr_S (As := [.int (zb true)]) (rest := []) ⟨hx, hb, hml, hown, hts⟩ (ct_X1_needState l hl0 g A _ true) zn_X1_needState (lw_S q338 q339 q39 q340) (by decide) (by decide) hK (fun _ h => h) hS hT rfl hl.1 (Nat.le_of_ble_eq_true rfl) dX1_examine_63 ⟨by show _ + 1 ≤ _; omega, by show _ + 6 ≤ _; omega⟩) hS hout hlocks (fun E hE => by obtain ⟨rfl, h0⟩ := hE; exact Or.inr (⟨rfl, by unfold m_examine; first | exact absurd h0 (by decide) | (simp [zu, h0, hm_2, c_5, c_7, of_decide_eq_false c_9, c_12]; done) | (fail)⟩)) (by show _ + 1 ≤ 2; omega) (by show _ + 6 ≤ 12; omega) (fun _ H locs hx_14 hT _ _ hS => ?_)
          refine lv_aload_n hx hb dX1_examine_66 rfl (lv_at hl 1 rfl) ?_
          refine zt_getN hx hb hts in_X4 hown hK.1 hT (hY.p hq_4) rfl 8 (by decide) (va_Nw.use (A := args) rfl (hK.2.1.1 _ _ _ _ _ _ q399)) (fun _ h => h) rfl dX1_examine_67 ?_
          refine lv_istore (lv' := [(4, .int (X 7 x.toNatClampNeg)), (3, .int (X 21 (mK X x.toNatClampNeg))), (2, .ref (S.pa x.toNatClampNeg)), (0, .ref (S.A 0)), (1, .int x)]) hx hb dX1_examine_70 hl (by decide) rfl (fun ls hl => ?_)
          refine lv_aload_n hx hb dX1_examine_72 rfl (lv_at hl 2 rfl) ?_
          refine lv_iconst (v := 0) hx hb dX1_examine_73 (by decide) ?_
          refine zt_putN hx hb hts in_X4 tyX4 tyX4_ok nmX4 hown hK.1 hT hS (hY.p hq_4) rfl 8 (by decide) (va_Nw.use (A := args) rfl (hK.2.1.1 _ _ _ _ _ _ q399)) (fun _ h => h) rfl (v := .int 0) (tyX4_ok 8 (by decide)) rfl rfl (show 8 < 20 from by decide) dX1_examine_74 (fun H locs hT hS => ?_)
          obtain ⟨T, hT, hY⟩ : ∃ T1, zTH g A T1 H ∧ zSy S g (zu X 7 x.toNatClampNeg 0) T1 := ⟨_, hT, hY.pw hq_4 7 0 rfl (zpF_s S X 8 7 x.toNatClampNeg _ (by decide))⟩
          refine lv_aload_n hx hb dX1_examine_77 rfl (lv_at hl 2 rfl) ?_
          refine lv_iconst (v := 0) hx hb dX1_examine_78 (by decide) ?_
          refine zt_putN hx hb hts in_X4 tyX4 tyX4_ok nmX4 hown hK.1 hT hS (hY.p hq_4) rfl 9 (by decide) (va_Nw.use (A := args) rfl (hK.2.1.1 _ _ _ _ _ _ q400)) (fun _ h => h) rfl (v := .int 0) (tyX4_ok 9 (by decide)) rfl rfl (show 9 < 20 from by decide) dX1_examine_79 (fun H locs hT hS => ?_)
          obtain ⟨T, hT, hY⟩ : ∃ T1, zTH g A T1 H ∧ zSy S g (zu (zu X 7 x.toNatClampNeg 0) 8 x.toNatClampNeg 0) T1 := ⟨_, hT, hY.pw hq_4 8 0 rfl (zpF_s S (zu X 7 x.toNatClampNeg 0) 9 8 x.toNatClampNeg _ (by decide))⟩
          refine lv_iload hx hb dX1_examine_82 (lv_at hl 0 rfl) ?_
          have hY0 := hY.hid 0 0 0 (Or.inl rfl)
          rw [zu_comm _ (show (8 : Nat) ≠ 0 by decide), zu_comm _ (show (7 : Nat) ≠ 0 by decide)] at hY0
          have e1 : m_examine X x = (X 7 x.toNatClampNeg, zu (zu (zu X 0 0 0) 7 x.toNatClampNeg 0) 8 x.toNatClampNeg 0) := by simp [m_examine, hm_2, c_5, c_7, of_decide_eq_false c_9, c_12, hx_14]
          exact vx_ret (ze_i hx hb hr hlocks hS dX1_examine_84 (by show _ ≤ 2; omega) (by show _ ≤ 12; omega) T (by rw [e1]; exact ⟨⟨rfl, by simp [zu]⟩, hY0⟩) hT)
theorem zn_X1_waive : zN yX1_waive 2 := by decide +kernel
set_option maxHeartbeats 4000000 in
theorem ct_X1_waive (l : Launch) (hl0 : l.stackTraces = false) (g : zG) (A : Nat → Prop) (S : zS) (X : zX) (T : zT) (hY : zSy S g X T) (hI : MH X) (h21 : ∀ k, ¬ X 21 k < 0) (h8 : ∀ p, ¬ X 8 p < 0) (x km : Int32) : vx_Met l yX1_waive (ws_ yX1_waive cX1_waive 4 none) (zR 8 3 18) (zP [.ref (S.A 0), .int x, .int km] g A (zTH g A T)) (va_Qv (fun (T1 : zT) => (m_waive X x km) 0 0 = 0 ∧ zSy S g (m_waive X x km) T1) (fun T1 t => zTH g A T1 t.heap) A) (zXC (fun E => (E = xIO ∧ (m_waive X x km) 0 0 = 1) ∨ (E = xIA ∧ (m_waive X x km) 0 0 = 2) ∨ (E = xIS ∧ (m_waive X x km) 0 0 = 3)) g A T) 3 18 A := by
  refine zb_xmet (by decide) (Nat.le_of_ble_eq_true rfl) ?_
  intro p e s m args below meth c ls hx hb hr hml hown hts hlocks hnm hK hT ha_ hl hout
  have hown : s.vm.findClass RX1 = some m.cls := hown
  have hS : va_S A s.heap s.heap [] := va_S.rf
  have hl : lv_has ls 4 [(0, .ref (S.A 0)), (1, .int x), (2, .int km)] := hl
  refine lv_aload_n hx hb dX1_waive_0 rfl (lv_at hl 0 rfl) ?_
  refine zt_get hx hb hts in_X1 hown hK.1 hT hY.w rfl 0 (by decide) (hts _ q177) (fun _ h => h) rfl dX1_waive_1 ?_
  refine lv_iload_n hx hb dX1_waive_4 rfl (lv_at hl 1 rfl) ?_
  refine zxc_q (zxr_V (As := [.int x]) (rest := []) ⟨hx, hb, hml, hown, hts⟩ (ct_X2_need l hl0 g A S X _ hY hI x) zn_X2_need (lw_V q514 q515 q516 q40 q517) rfl (by decide) (by decide) hK (fun _ h => h) hS hT (zt_recv hK.1 hT hY.rk rfl) rfl hl.1 (Nat.le_of_ble_eq_true rfl) dX1_waive_5 ⟨by show _ + 1 ≤ _; omega, by show _ + 6 ≤ _; omega⟩) hS hout hlocks (fun E hE => by obtain ⟨rfl, h0⟩ := hE; exact Or.inl ⟨rfl, by unfold m_waive; simp [zu, h0]⟩) (by show _ + 1 ≤ 3; omega) (by show _ + 6 ≤ 18; omega) (fun r _ H locs hr_1 hT _ _ hS => ?_)
  obtain ⟨rfl, hm_2⟩ := hr_1
  obtain ⟨hq_3, hq_4⟩ := mIs_p hI hm_2
  refine zm_top (v' := .ref (S.pa x.toNatClampNeg)) rfl ?_
  refine va_castS hx hb hown (hts _ q356) (hK.1.1 3 _ rfl).2 (zt_recv hK.1 hT (hY.p hq_4) (r := zCl[3]) rfl) dX1_waive_8 ?_
  refine lv_astore_n (lv' := [(3, .ref (S.pa x.toNatClampNeg)), (0, .ref (S.A 0)), (1, .int x), (2, .int km)]) hx hb dX1_waive_11 rfl hl (by decide) rfl (fun ls hl => ?_)
  refine lv_iload_n hx hb dX1_waive_12 rfl (lv_at hl 3 rfl) ?_
  refine lv_iconst (v := 1) hx hb dX1_waive_13 (by decide) ?_
  refine lv_sipush (v := 999) hx hb dX1_waive_14 (by decide) ?_
  refine zc_i (zr_S (As := [.int km, .int 1, .int 999]) (rest := []) ⟨hx, hb, hml, hown, hts⟩ (ct_X1_in l g A (zTH g A _) km 1 999) zn_X1_in (lw_S q262 q263 q39 q264) (by decide) (by decide) hK (fun _ h => h) hS hT rfl hl.1 (Nat.le_of_ble_eq_true rfl) dX1_waive_17 ⟨by show _ + 0 ≤ _; omega, by show _ + 0 ≤ _; omega⟩) hS (fun _ h => h) (fun r _ H locs hr1 hT _ _ hS => ?_)
  subst hr1
  refine zxc_v (zxr_S (As := [.int (zb (zin km 1 999))]) (rest := []) ⟨hx, hb, hml, hown, hts⟩ (ct_X1_need l hl0 g A _ (zin km 1 999)) zn_X1_need (lw_S q265 q266 q39 q267) (by decide) (by decide) hK (fun _ h => h) hS hT rfl hl.1 (Nat.le_of_ble_eq_true rfl) dX1_waive_20 ⟨by show _ + 1 ≤ _; omega, by show _ + 6 ≤ _; omega⟩) hS hout hlocks (fun E hE => by obtain ⟨rfl, h0⟩ := hE; exact Or.inr (Or.inl ⟨rfl, by unfold m_waive; first | exact absurd h0 (by decide) | (simp [zu, h0, hm_2]; done) | (fail)⟩)) (by show _ + 1 ≤ 3; omega) (by show _ + 6 ≤ 18; omega) (fun _ H locs hx_5 hT _ _ hS => ?_)
  refine lv_aload_n hx hb dX1_waive_23 rfl (lv_at hl 1 rfl) ?_
  refine zt_get hx hb hts in_X1 hown hK.1 hT hY.w rfl 2 (by decide) (hts _ q179) (fun _ h => h) rfl dX1_waive_24 ?_
  refine lv_aload_n hx hb dX1_waive_27 rfl (lv_at hl 0 rfl) ?_
  refine zt_getN hx hb hts in_X4 hown hK.1 hT (hY.p hq_4) rfl 1 (by decide) (va_Nw.use (A := args) rfl (hK.2.1.1 _ _ _ _ _ _ q385)) (fun _ h => h) rfl dX1_waive_28 ?_
  refine zm_topi (y := nI (mK X x.toNatClampNeg)) ((hI.2.1 _ hq_4).1) ?_
  have hk4_ := (hI.2.1 _ hq_4).2
  refine zt_ild (k := mK X x.toNatClampNeg) hx hb hK.1 hT hY.a4 (by omega) (by omega) dX1_waive_31 ?_
  refine lv_if_le (tgt := 46) hx hb dX1_waive_32 (by decide) (fun c_6 => ?_) (fun c_6 => ?_)
  · refine lv_iconst (v := 0) hx hb dX1_waive_46 (by decide) ?_
    refine zm_topi (y := zb false) rfl ?_
    refine zxc_v (zxr_S (As := [.int (zb false)]) (rest := []) ⟨hx, hb, hml, hown, hts⟩ (ct_X1_needState l hl0 g A _ false) zn_X1_needState (lw_S q338 q339 q39 q340) (by decide) (by decide) hK (fun _ h => h) hS hT rfl hl.1 (Nat.le_of_ble_eq_true rfl) dX1_waive_47 ⟨by show _ + 1 ≤ _; omega, by show _ + 6 ≤ _; omega⟩) hS hout hlocks (fun E hE => by obtain ⟨rfl, h0⟩ := hE; exact Or.inr (Or.inr (⟨rfl, by unfold m_waive; first | exact absurd h0 (by decide) | (simp [zu, h0, hm_2, hx_5, c_6]; done) | (simp [zu, zgt_nn (h8 _), ← zgt_nn (h21 _), hm_2, hx_5, c_6])⟩))) (by show _ + 1 ≤ 3; omega) (by show _ + 6 ≤ 18; omega) (fun _ H locs hx_7 hT _ _ hS => ?_)
    cases hx_7
  · refine lv_aload_n hx hb dX1_waive_35 rfl (lv_at hl 0 rfl) ?_
    refine zt_getN hx hb hts in_X4 hown hK.1 hT (hY.p hq_4) rfl 9 (by decide) (va_Nw.use (A := args) rfl (hK.2.1.1 _ _ _ _ _ _ q400)) (fun _ h => h) rfl dX1_waive_36 ?_
    refine lv_if_ne (tgt := 46) hx hb dX1_waive_39 (by decide) (fun c_8 => ?_) (fun c_8 => ?_)
    · refine lv_iconst (v := 0) hx hb dX1_waive_46 (by decide) ?_
      refine zm_topi (y := zb false) rfl ?_
      refine zxc_v (zxr_S (As := [.int (zb false)]) (rest := []) ⟨hx, hb, hml, hown, hts⟩ (ct_X1_needState l hl0 g A _ false) zn_X1_needState (lw_S q338 q339 q39 q340) (by decide) (by decide) hK (fun _ h => h) hS hT rfl hl.1 (Nat.le_of_ble_eq_true rfl) dX1_waive_47 ⟨by show _ + 1 ≤ _; omega, by show _ + 6 ≤ _; omega⟩) hS hout hlocks (fun E hE => by obtain ⟨rfl, h0⟩ := hE; exact Or.inr (Or.inr (⟨rfl, by unfold m_waive; first | exact absurd h0 (by decide) | (simp [zu, h0, hm_2, hx_5, c_6, c_8]; done) | (simp [zu, zgt_nn (h8 _), ← zgt_nn (h21 _), hm_2, hx_5, c_6, c_8])⟩))) (by show _ + 1 ≤ 3; omega) (by show _ + 6 ≤ 18; omega) (fun _ H locs hx_9 hT _ _ hS => ?_)
      cases hx_9
    · refine lv_iconst (v := 1) hx hb dX1_waive_42 (by decide) ?_
      refine lv_goto (tgt := 47) hx hb dX1_waive_43 (by decide) ?_
      refine zm_topi (y := zb true) rfl ?_
      refine zxc_v (zxr_S (As := [.int (zb true)]) (rest := []) ⟨hx, hb, hml, hown, hts⟩ (ct_X1_needState l hl0 g A _ true) zn_X1_needState (lw_S q338 q339 q39 q340) (by decide) (by decide) hK (fun _ h => h) hS hT rfl hl.1 (Nat.le_of_ble_eq_true rfl) dX1_waive_47 ⟨by show _ + 1 ≤ _; omega, by show _ + 6 ≤ _; omega⟩) hS hout hlocks (fun E hE => by obtain ⟨rfl, h0⟩ := hE; exact Or.inr (Or.inr (⟨rfl, by unfold m_waive; first | exact absurd h0 (by decide) | (simp [zu, h0, hm_2, hx_5, c_6, c_8]; done) | (simp [zu, zgt_nn (h8 _), ← zgt_nn (h21 _), hm_2, hx_5, c_6, c_8])⟩))) (by show _ + 1 ≤ 3; omega) (by show _ + 6 ≤ 18; omega) (fun _ H locs hx_10 hT _ _ hS => ?_)
      refine lv_aload_n hx hb dX1_waive_50 rfl (lv_at hl 0 rfl) ?_
      refine lv_iload_n hx hb dX1_waive_51 rfl (lv_at hl 3 rfl) ?_
      refine zt_putN hx hb hts in_X4 tyX4 tyX4_ok nmX4 hown hK.1 hT hS (hY.p hq_4) rfl 9 (by decide) (va_Nw.use (A := args) rfl (hK.2.1.1 _ _ _ _ _ _ q400)) (fun _ h => h) rfl (v := .int km) (tyX4_ok 9 (by decide)) rfl rfl (show 9 < 20 from by decide) dX1_waive_52 (fun H locs hT hS => ?_)
      obtain ⟨T, hT, hY⟩ : ∃ T1, zTH g A T1 H ∧ zSy S g (zu X 8 x.toNatClampNeg km) T1 := ⟨_, hT, hY.pw hq_4 8 km rfl (zpF_s S X 9 8 x.toNatClampNeg _ (by decide))⟩
      have hY0 := hY.hid 0 0 0 (Or.inl rfl)
      rw [zu_comm _ (show (8 : Nat) ≠ 0 by decide)] at hY0
      have e1 : m_waive X x km = zu (zu X 0 0 0) 8 x.toNatClampNeg km := by unfold m_waive; simp [zgt_nn (h8 _), ← zgt_nn (h21 _), hm_2, hx_5, c_6, c_8, hx_10]
      exact vx_ret (ze_v hx hb hr hlocks hS dX1_waive_55 (by show _ ≤ 3; omega) (by show _ ≤ 18; omega) T (by rw [e1]; exact ⟨by simp [zu], hY0⟩) hT)
theorem zn_X1_flaw : zN yX1_flaw 2 := by decide +kernel
set_option maxHeartbeats 4000000 in
theorem ct_X1_flaw (l : Launch) (hl0 : l.stackTraces = false) (g : zG) (A : Nat → Prop) (S : zS) (X : zX) (T : zT) (hY : zSy S g X T) (hI : MH X) (x sz : Int32) : vx_Met l yX1_flaw (ws_ yX1_flaw cX1_flaw 5 (some .int)) (zR 8 2 12) (zP [.ref (S.A 0), .int x, .int sz] g A (zTH g A T)) (va_Qi (fun rz_ (T1 : zT) => (rz_ = (m_flaw X x sz).1 ∧ (m_flaw X x sz).2 0 0 = 0) ∧ zSy S g (m_flaw X x sz).2 T1) (fun T1 t => zTH g A T1 t.heap) A) (zXC (fun E => (E = xIO ∧ (m_flaw X x sz).2 0 0 = 1) ∨ (E = xIA ∧ (m_flaw X x sz).2 0 0 = 2)) g A T) 2 12 A := by
  refine zb_xmet (by decide) (Nat.le_of_ble_eq_true rfl) ?_
  intro p e s m args below meth c ls hx hb hr hml hown hts hlocks hnm hK hT ha_ hl hout
  have hown : s.vm.findClass RX1 = some m.cls := hown
  have hS : va_S A s.heap s.heap [] := va_S.rf
  have hl : lv_has ls 5 [(0, .ref (S.A 0)), (1, .int x), (2, .int sz)] := hl
  refine lv_aload_n hx hb dX1_flaw_0 rfl (lv_at hl 0 rfl) ?_
  refine zt_get hx hb hts in_X1 hown hK.1 hT hY.w rfl 0 (by decide) (hts _ q177) (fun _ h => h) rfl dX1_flaw_1 ?_
  refine lv_iload_n hx hb dX1_flaw_4 rfl (lv_at hl 1 rfl) ?_
  refine zxc_q (zxr_V (As := [.int x]) (rest := []) ⟨hx, hb, hml, hown, hts⟩ (ct_X2_need l hl0 g A S X _ hY hI x) zn_X2_need (lw_V q514 q515 q516 q40 q517) rfl (by decide) (by decide) hK (fun _ h => h) hS hT (zt_recv hK.1 hT hY.rk rfl) rfl hl.1 (Nat.le_of_ble_eq_true rfl) dX1_flaw_5 ⟨by show _ + 1 ≤ _; omega, by show _ + 6 ≤ _; omega⟩) hS hout hlocks (fun E hE => by obtain ⟨rfl, h0⟩ := hE; exact Or.inl ⟨rfl, by unfold m_flaw; simp [zu, h0]⟩) (by show _ + 1 ≤ 2; omega) (by show _ + 6 ≤ 12; omega) (fun r _ H locs hr_1 hT _ _ hS => ?_)
  obtain ⟨rfl, hm_2⟩ := hr_1
  obtain ⟨hq_3, hq_4⟩ := mIs_p hI hm_2
  refine zm_top (v' := .ref (S.pa x.toNatClampNeg)) rfl ?_
  refine va_castS hx hb hown (hts _ q356) (hK.1.1 3 _ rfl).2 (zt_recv hK.1 hT (hY.p hq_4) (r := zCl[3]) rfl) dX1_flaw_8 ?_
  refine lv_astore_n (lv' := [(3, .ref (S.pa x.toNatClampNeg)), (0, .ref (S.A 0)), (1, .int x), (2, .int sz)]) hx hb dX1_flaw_11 rfl hl (by decide) rfl (fun ls hl => ?_)
  refine lv_aload_n hx hb dX1_flaw_12 rfl (lv_at hl 0 rfl) ?_
  refine zt_getN hx hb hts in_X4 hown hK.1 hT (hY.p hq_4) rfl 1 (by decide) (va_Nw.use (A := args) rfl (hK.2.1.1 _ _ _ _ _ _ q385)) (fun _ h => h) rfl dX1_flaw_13 ?_
  refine lv_iconst (v := 3) hx hb dX1_flaw_16 (by decide) ?_
  refine lv_icmp_eq (tgt := 28) hx hb dX1_flaw_17 (by decide) (fun c_5 => ?_) (fun c_5 => ?_)
  · refine lv_iload_n hx hb dX1_flaw_28 rfl (lv_at hl 3 rfl) ?_
    refine lv_iconst (v := 1) hx hb dX1_flaw_29 (by decide) ?_
    refine lv_bipush (v := 99) hx hb dX1_flaw_30 (by decide) ?_
    refine zc_i (zr_S (As := [.int sz, .int 1, .int 99]) (rest := []) ⟨hx, hb, hml, hown, hts⟩ (ct_X1_in l g A (zTH g A _) sz 1 99) zn_X1_in (lw_S q262 q263 q39 q264) (by decide) (by decide) hK (fun _ h => h) hS hT rfl hl.1 (Nat.le_of_ble_eq_true rfl) dX1_flaw_32 ⟨by show _ + 0 ≤ _; omega, by show _ + 0 ≤ _; omega⟩) hS (fun _ h => h) (fun r _ H locs hr1 hT _ _ hS => ?_)
    subst hr1
    refine zl_ifeq (tgt := 42) hx hb dX1_flaw_35 (by decide) (fun c_6 => ?_) (fun c_6 => ?_)
    · refine lv_iconst (v := 0) hx hb dX1_flaw_42 (by decide) ?_
      refine zm_topi (y := zb false) rfl ?_
      refine zxc_v (zxr_S (As := [.int (zb false)]) (rest := []) ⟨hx, hb, hml, hown, hts⟩ (ct_X1_need l hl0 g A _ false) zn_X1_need (lw_S q265 q266 q39 q267) (by decide) (by decide) hK (fun _ h => h) hS hT rfl hl.1 (Nat.le_of_ble_eq_true rfl) dX1_flaw_43 ⟨by show _ + 1 ≤ _; omega, by show _ + 6 ≤ _; omega⟩) hS hout hlocks (fun E hE => by obtain ⟨rfl, h0⟩ := hE; exact Or.inr (⟨rfl, by unfold m_flaw; first | exact absurd h0 (by decide) | (simp [zu, h0, hm_2, c_5, c_6]; done) | (simp [zu, zKi hI hq_4, hm_2, c_5, c_6])⟩)) (by show _ + 1 ≤ 2; omega) (by show _ + 6 ≤ 12; omega) (fun _ H locs hx_7 hT _ _ hS => ?_)
      cases hx_7
    · refine lv_iconst (v := 1) hx hb dX1_flaw_38 (by decide) ?_
      refine lv_goto (tgt := 43) hx hb dX1_flaw_39 (by decide) ?_
      refine zm_topi (y := zb true) rfl ?_
      refine zxc_v (zxr_S (As := [.int (zb true)]) (rest := []) ⟨hx, hb, hml, hown, hts⟩ (ct_X1_need l hl0 g A _ true) zn_X1_need (lw_S q265 q266 q39 q267) (by decide) (by decide) hK (fun _ h => h) hS hT rfl hl.1 (Nat.le_of_ble_eq_true rfl) dX1_flaw_43 ⟨by show _ + 1 ≤ _; omega, by show _ + 6 ≤ _; omega⟩) hS hout hlocks (fun E hE => by obtain ⟨rfl, h0⟩ := hE; exact Or.inr (⟨rfl, by unfold m_flaw; first | exact absurd h0 (by decide) | (simp [zu, h0, hm_2, c_5, c_6]; done) | (simp [zu, zKi hI hq_4, hm_2, c_5, c_6])⟩)) (by show _ + 1 ≤ 2; omega) (by show _ + 6 ≤ 12; omega) (fun _ H locs hx_8 hT _ _ hS => ?_)
      refine lv_aload_n hx hb dX1_flaw_46 rfl (lv_at hl 0 rfl) ?_
      refine zt_getN hx hb hts in_X4 hown hK.1 hT (hY.p hq_4) rfl 12 (by decide) (va_Nw.use (A := args) rfl (hK.2.1.1 _ _ _ _ _ _ q406)) (fun _ h => h) rfl dX1_flaw_47 ?_
      refine lv_istore (lv' := [(4, .int (X 18 x.toNatClampNeg)), (3, .ref (S.pa x.toNatClampNeg)), (0, .ref (S.A 0)), (1, .int x), (2, .int sz)]) hx hb dX1_flaw_50 hl (by decide) rfl (fun ls hl => ?_)
      refine lv_aload_n hx hb dX1_flaw_52 rfl (lv_at hl 1 rfl) ?_
      refine lv_iload_n hx hb dX1_flaw_53 rfl (lv_at hl 4 rfl) ?_
      refine zt_putN hx hb hts in_X4 tyX4 tyX4_ok nmX4 hown hK.1 hT hS (hY.p hq_4) rfl 12 (by decide) (va_Nw.use (A := args) rfl (hK.2.1.1 _ _ _ _ _ _ q406)) (fun _ h => h) rfl (v := .int sz) (tyX4_ok 12 (by decide)) rfl rfl (show 12 < 20 from by decide) dX1_flaw_54 (fun H locs hT hS => ?_)
      obtain ⟨T, hT, hY⟩ : ∃ T1, zTH g A T1 H ∧ zSy S g (zu X 18 x.toNatClampNeg sz) T1 := ⟨_, hT, hY.pw hq_4 18 sz rfl (zpF_s S X 12 18 x.toNatClampNeg _ (by decide))⟩
      refine lv_aload_n hx hb dX1_flaw_57 rfl (lv_at hl 1 rfl) ?_
      refine lv_aload_n hx hb dX1_flaw_58 rfl (lv_at hl 1 rfl) ?_
      refine zt_getN hx hb hts in_X4 hown hK.1 hT (hY.p hq_4) rfl 7 (by decide) (va_Nw.use (A := args) rfl (hK.2.1.1 _ _ _ _ _ _ q397)) (fun _ h => h) rfl dX1_flaw_59 ?_
      refine zm_topi (y := X 6 x.toNatClampNeg) (by simp [zu]) ?_
      refine zt_putN hx hb hts in_X4 tyX4 tyX4_ok nmX4 hown hK.1 hT hS (hY.p hq_4) rfl 13 (by decide) (va_Nw.use (A := args) rfl (hK.2.1.1 _ _ _ _ _ _ q408)) (fun _ h => h) rfl (v := .int (X 6 x.toNatClampNeg)) (tyX4_ok 13 (by decide)) rfl rfl (show 13 < 20 from by decide) dX1_flaw_62 (fun H locs hT hS => ?_)
      obtain ⟨T, hT, hY⟩ : ∃ T1, zTH g A T1 H ∧ zSy S g (zu (zu X 18 x.toNatClampNeg sz) 19 x.toNatClampNeg (X 6 x.toNatClampNeg)) T1 := ⟨_, hT, hY.pw hq_4 19 (X 6 x.toNatClampNeg) rfl (zpF_s S (zu X 18 x.toNatClampNeg sz) 13 19 x.toNatClampNeg _ (by decide))⟩
      refine lv_iload hx hb dX1_flaw_65 (lv_at hl 0 rfl) ?_
      have hY0 := hY.hid 0 0 0 (Or.inl rfl)
      rw [zu_comm _ (show (19 : Nat) ≠ 0 by decide), zu_comm _ (show (18 : Nat) ≠ 0 by decide)] at hY0
      have e1 : m_flaw X x sz = (X 18 x.toNatClampNeg, zu (zu (zu X 0 0 0) 18 x.toNatClampNeg sz) 19 x.toNatClampNeg (X 6 x.toNatClampNeg)) := by simp [m_flaw, zKi hI hq_4, hm_2, c_5, c_6, hx_8]
      exact vx_ret (ze_i hx hb hr hlocks hS dX1_flaw_67 (by show _ ≤ 2; omega) (by show _ ≤ 12; omega) T (by rw [e1]; exact ⟨⟨rfl, by simp [zu]⟩, hY0⟩) hT)
  · refine lv_aload_n hx hb dX1_flaw_20 rfl (lv_at hl 0 rfl) ?_
    refine zt_getN hx hb hts in_X4 hown hK.1 hT (hY.p hq_4) rfl 1 (by decide) (va_Nw.use (A := args) rfl (hK.2.1.1 _ _ _ _ _ _ q385)) (fun _ h => h) rfl dX1_flaw_21 ?_
    refine lv_iconst (v := 4) hx hb dX1_flaw_24 (by decide) ?_
    refine lv_icmp_ne (tgt := 42) hx hb dX1_flaw_25 (by decide) (fun c_9 => ?_) (fun c_9 => ?_)
    · refine lv_iconst (v := 0) hx hb dX1_flaw_42 (by decide) ?_
      refine zm_topi (y := zb false) rfl ?_
      refine zxc_v (zxr_S (As := [.int (zb false)]) (rest := []) ⟨hx, hb, hml, hown, hts⟩ (ct_X1_need l hl0 g A _ false) zn_X1_need (lw_S q265 q266 q39 q267) (by decide) (by decide) hK (fun _ h => h) hS hT rfl hl.1 (Nat.le_of_ble_eq_true rfl) dX1_flaw_43 ⟨by show _ + 1 ≤ _; omega, by show _ + 6 ≤ _; omega⟩) hS hout hlocks (fun E hE => by obtain ⟨rfl, h0⟩ := hE; exact Or.inr (⟨rfl, by unfold m_flaw; first | exact absurd h0 (by decide) | (simp [zu, h0, hm_2, c_5, c_9]; done) | (simp [zu, zKi hI hq_4, hm_2, c_5, c_9])⟩)) (by show _ + 1 ≤ 2; omega) (by show _ + 6 ≤ 12; omega) (fun _ H locs hx_10 hT _ _ hS => ?_)
      cases hx_10
    · refine lv_iload_n hx hb dX1_flaw_28 rfl (lv_at hl 3 rfl) ?_
      refine lv_iconst (v := 1) hx hb dX1_flaw_29 (by decide) ?_
      refine lv_bipush (v := 99) hx hb dX1_flaw_30 (by decide) ?_
      refine zc_i (zr_S (As := [.int sz, .int 1, .int 99]) (rest := []) ⟨hx, hb, hml, hown, hts⟩ (ct_X1_in l g A (zTH g A _) sz 1 99) zn_X1_in (lw_S q262 q263 q39 q264) (by decide) (by decide) hK (fun _ h => h) hS hT rfl hl.1 (Nat.le_of_ble_eq_true rfl) dX1_flaw_32 ⟨by show _ + 0 ≤ _; omega, by show _ + 0 ≤ _; omega⟩) hS (fun _ h => h) (fun r _ H locs hr1 hT _ _ hS => ?_)
      subst hr1
      refine zl_ifeq (tgt := 42) hx hb dX1_flaw_35 (by decide) (fun c_11 => ?_) (fun c_11 => ?_)
      · refine lv_iconst (v := 0) hx hb dX1_flaw_42 (by decide) ?_
        refine zm_topi (y := zb false) rfl ?_
        refine zxc_v (zxr_S (As := [.int (zb false)]) (rest := []) ⟨hx, hb, hml, hown, hts⟩ (ct_X1_need l hl0 g A _ false) zn_X1_need (lw_S q265 q266 q39 q267) (by decide) (by decide) hK (fun _ h => h) hS hT rfl hl.1 (Nat.le_of_ble_eq_true rfl) dX1_flaw_43 ⟨by show _ + 1 ≤ _; omega, by show _ + 6 ≤ _; omega⟩) hS hout hlocks (fun E hE => by obtain ⟨rfl, h0⟩ := hE; exact Or.inr (⟨rfl, by unfold m_flaw; first | exact absurd h0 (by decide) | (simp [zu, h0, hm_2, c_5, c_9, c_11]; done) | (simp [zu, zKi hI hq_4, hm_2, c_5, c_9, c_11])⟩)) (by show _ + 1 ≤ 2; omega) (by show _ + 6 ≤ 12; omega) (fun _ H locs hx_12 hT _ _ hS => ?_)
        cases hx_12
      · refine lv_iconst (v := 1) hx hb dX1_flaw_38 (by decide) ?_
        refine lv_goto (tgt := 43) hx hb dX1_flaw_39 (by decide) ?_
        refine zm_topi (y := zb true) rfl ?_
        refine zxc_v (zxr_S (As := [.int (zb true)]) (rest := []) ⟨hx, hb, hml, hown, hts⟩ (ct_X1_need l hl0 g A _ true) zn_X1_need (lw_S q265 q266 q39 q267) (by decide) (by decide) hK (fun _ h => h) hS hT rfl hl.1 (Nat.le_of_ble_eq_true rfl) dX1_flaw_43 ⟨by show _ + 1 ≤ _; omega, by show _ + 6 ≤ _; omega⟩) hS hout hlocks (fun E hE => by obtain ⟨rfl, h0⟩ := hE; exact Or.inr (⟨rfl, by unfold m_flaw; first | exact absurd h0 (by decide) | (simp [zu, h0, hm_2, c_5, c_9, c_11]; done) | (simp [zu, zKi hI hq_4, hm_2, c_5, c_9, c_11])⟩)) (by show _ + 1 ≤ 2; omega) (by show _ + 6 ≤ 12; omega) (fun _ H locs hx_13 hT _ _ hS => ?_)
        refine lv_aload_n hx hb dX1_flaw_46 rfl (lv_at hl 0 rfl) ?_
        refine zt_getN hx hb hts in_X4 hown hK.1 hT (hY.p hq_4) rfl 12 (by decide) (va_Nw.use (A := args) rfl (hK.2.1.1 _ _ _ _ _ _ q406)) (fun _ h => h) rfl dX1_flaw_47 ?_
        refine lv_istore (lv' := [(4, .int (X 18 x.toNatClampNeg)), (3, .ref (S.pa x.toNatClampNeg)), (0, .ref (S.A 0)), (1, .int x), (2, .int sz)]) hx hb dX1_flaw_50 hl (by decide) rfl (fun ls hl => ?_)
        refine lv_aload_n hx hb dX1_flaw_52 rfl (lv_at hl 1 rfl) ?_
        refine lv_iload_n hx hb dX1_flaw_53 rfl (lv_at hl 4 rfl) ?_
        refine zt_putN hx hb hts in_X4 tyX4 tyX4_ok nmX4 hown hK.1 hT hS (hY.p hq_4) rfl 12 (by decide) (va_Nw.use (A := args) rfl (hK.2.1.1 _ _ _ _ _ _ q406)) (fun _ h => h) rfl (v := .int sz) (tyX4_ok 12 (by decide)) rfl rfl (show 12 < 20 from by decide) dX1_flaw_54 (fun H locs hT hS => ?_)
        obtain ⟨T, hT, hY⟩ : ∃ T1, zTH g A T1 H ∧ zSy S g (zu X 18 x.toNatClampNeg sz) T1 := ⟨_, hT, hY.pw hq_4 18 sz rfl (zpF_s S X 12 18 x.toNatClampNeg _ (by decide))⟩
        refine lv_aload_n hx hb dX1_flaw_57 rfl (lv_at hl 1 rfl) ?_
        refine lv_aload_n hx hb dX1_flaw_58 rfl (lv_at hl 1 rfl) ?_
        refine zt_getN hx hb hts in_X4 hown hK.1 hT (hY.p hq_4) rfl 7 (by decide) (va_Nw.use (A := args) rfl (hK.2.1.1 _ _ _ _ _ _ q397)) (fun _ h => h) rfl dX1_flaw_59 ?_
        refine zm_topi (y := X 6 x.toNatClampNeg) (by simp [zu]) ?_
        refine zt_putN hx hb hts in_X4 tyX4 tyX4_ok nmX4 hown hK.1 hT hS (hY.p hq_4) rfl 13 (by decide) (va_Nw.use (A := args) rfl (hK.2.1.1 _ _ _ _ _ _ q408)) (fun _ h => h) rfl (v := .int (X 6 x.toNatClampNeg)) (tyX4_ok 13 (by decide)) rfl rfl (show 13 < 20 from by decide) dX1_flaw_62 (fun H locs hT hS => ?_)
        obtain ⟨T, hT, hY⟩ : ∃ T1, zTH g A T1 H ∧ zSy S g (zu (zu X 18 x.toNatClampNeg sz) 19 x.toNatClampNeg (X 6 x.toNatClampNeg)) T1 := ⟨_, hT, hY.pw hq_4 19 (X 6 x.toNatClampNeg) rfl (zpF_s S (zu X 18 x.toNatClampNeg sz) 13 19 x.toNatClampNeg _ (by decide))⟩
        refine lv_iload hx hb dX1_flaw_65 (lv_at hl 0 rfl) ?_
        have hY0 := hY.hid 0 0 0 (Or.inl rfl)
        rw [zu_comm _ (show (19 : Nat) ≠ 0 by decide), zu_comm _ (show (18 : Nat) ≠ 0 by decide)] at hY0
        have e1 : m_flaw X x sz = (X 18 x.toNatClampNeg, zu (zu (zu X 0 0 0) 18 x.toNatClampNeg sz) 19 x.toNatClampNeg (X 6 x.toNatClampNeg)) := by simp [m_flaw, zKi hI hq_4, hm_2, c_5, c_9, c_11, hx_13]
        exact vx_ret (ze_i hx hb hr hlocks hS dX1_flaw_67 (by show _ ≤ 2; omega) (by show _ ≤ 12; omega) T (by rw [e1]; exact ⟨⟨rfl, by simp [zu]⟩, hY0⟩) hT)
theorem zn_X1_clear : zN yX1_clear 1 := by decide +kernel
set_option maxHeartbeats 4000000 in
theorem ct_X1_clear (l : Launch) (hl0 : l.stackTraces = false) (g : zG) (A : Nat → Prop) (S : zS) (X : zX) (T : zT) (hY : zSy S g X T) (hI : MH X) (hz12 : ∀ p, X 12 p = 0 ∨ X 12 p = 1) (x : Int32) : vx_Met l yX1_clear (ws_ yX1_clear cX1_clear 4 (some .int)) (zR 8 2 12) (zP [.ref (S.A 0), .int x] g A (zTH g A T)) (va_Qi (fun rz_ (T1 : zT) => (rz_ = (m_clear X x).1 ∧ (m_clear X x).2 0 0 = 0) ∧ zSy S g (m_clear X x).2 T1) (fun T1 t => zTH g A T1 t.heap) A) (zXC (fun E => (E = xIO ∧ (m_clear X x).2 0 0 = 1) ∨ (E = xIS ∧ (m_clear X x).2 0 0 = 2)) g A T) 2 12 A := by
  refine zb_xmet (by decide) (Nat.le_of_ble_eq_true rfl) ?_
  intro p e s m args below meth c ls hx hb hr hml hown hts hlocks hnm hK hT ha_ hl hout
  have hown : s.vm.findClass RX1 = some m.cls := hown
  have hS : va_S A s.heap s.heap [] := va_S.rf
  have hl : lv_has ls 4 [(0, .ref (S.A 0)), (1, .int x)] := hl
  refine lv_aload_n hx hb dX1_clear_0 rfl (lv_at hl 0 rfl) ?_
  refine zt_get hx hb hts in_X1 hown hK.1 hT hY.w rfl 0 (by decide) (hts _ q177) (fun _ h => h) rfl dX1_clear_1 ?_
  refine lv_iload_n hx hb dX1_clear_4 rfl (lv_at hl 1 rfl) ?_
  refine zxc_q (zxr_V (As := [.int x]) (rest := []) ⟨hx, hb, hml, hown, hts⟩ (ct_X2_need l hl0 g A S X _ hY hI x) zn_X2_need (lw_V q514 q515 q516 q40 q517) rfl (by decide) (by decide) hK (fun _ h => h) hS hT (zt_recv hK.1 hT hY.rk rfl) rfl hl.1 (Nat.le_of_ble_eq_true rfl) dX1_clear_5 ⟨by show _ + 1 ≤ _; omega, by show _ + 6 ≤ _; omega⟩) hS hout hlocks (fun E hE => by obtain ⟨rfl, h0⟩ := hE; exact Or.inl ⟨rfl, by unfold m_clear; simp [zu, h0]⟩) (by show _ + 1 ≤ 2; omega) (by show _ + 6 ≤ 12; omega) (fun r _ H locs hr_1 hT _ _ hS => ?_)
  obtain ⟨rfl, hm_2⟩ := hr_1
  obtain ⟨hq_3, hq_4⟩ := mIs_p hI hm_2
  refine zm_top (v' := .ref (S.pa x.toNatClampNeg)) rfl ?_
  refine va_castS hx hb hown (hts _ q356) (hK.1.1 3 _ rfl).2 (zt_recv hK.1 hT (hY.p hq_4) (r := zCl[3]) rfl) dX1_clear_8 ?_
  refine lv_astore_n (lv' := [(2, .ref (S.pa x.toNatClampNeg)), (0, .ref (S.A 0)), (1, .int x)]) hx hb dX1_clear_11 rfl hl (by decide) rfl (fun ls hl => ?_)
  refine lv_aload_n hx hb dX1_clear_12 rfl (lv_at hl 0 rfl) ?_
  refine zt_getN hx hb hts in_X4 hown hK.1 hT (hY.p hq_4) rfl 10 (by decide) (va_Nw.use (A := args) rfl (hK.2.1.1 _ _ _ _ _ _ q401)) (fun _ h => h) rfl dX1_clear_13 ?_
  refine lv_if_eq (tgt := 30) hx hb dX1_clear_16 (by decide) (fun c_5 => ?_) (fun c_5 => ?_)
  · refine lv_iconst (v := 0) hx hb dX1_clear_30 (by decide) ?_
    refine zm_topi (y := zb false) rfl ?_
    refine zxc_v (zxr_S (As := [.int (zb false)]) (rest := []) ⟨hx, hb, hml, hown, hts⟩ (ct_X1_needState l hl0 g A _ false) zn_X1_needState (lw_S q338 q339 q39 q340) (by decide) (by decide) hK (fun _ h => h) hS hT rfl hl.1 (Nat.le_of_ble_eq_true rfl) dX1_clear_31 ⟨by show _ + 1 ≤ _; omega, by show _ + 6 ≤ _; omega⟩) hS hout hlocks (fun E hE => by obtain ⟨rfl, h0⟩ := hE; exact Or.inr (⟨rfl, by unfold m_clear; first | exact absurd h0 (by decide) | (simp [zu, h0, hm_2, c_5]; done) | (fail)⟩)) (by show _ + 1 ≤ 2; omega) (by show _ + 6 ≤ 12; omega) (fun _ H locs hx_6 hT _ _ hS => ?_)
    cases hx_6
  · refine lv_aload_n hx hb dX1_clear_19 rfl (lv_at hl 0 rfl) ?_
    refine zc_i (zr_V (As := []) (rest := []) ⟨hx, hb, hml, hown, hts⟩ (ct_X4_isBound l g A S X _ hY hI x.toNatClampNeg hq_4 hz12) zn_X4_isBound (lw_V q547 q548 q549 q54 q550) rfl (by decide) (by decide) hK (fun _ h => h) hS hT (zt_recv hK.1 hT (hY.p hq_4) rfl) rfl hl.1 (Nat.le_of_ble_eq_true rfl) dX1_clear_20 ⟨by show _ + 0 ≤ _; omega, by show _ + 0 ≤ _; omega⟩) hS (fun _ h => h) (fun r _ H locs hr_7 hT _ _ hS => ?_)
    subst hr_7
    refine lv_if_ne (tgt := 30) hx hb dX1_clear_23 (by decide) (fun c_8 => ?_) (fun c_8 => ?_)
    · refine lv_iconst (v := 0) hx hb dX1_clear_30 (by decide) ?_
      refine zm_topi (y := zb false) rfl ?_
      refine zxc_v (zxr_S (As := [.int (zb false)]) (rest := []) ⟨hx, hb, hml, hown, hts⟩ (ct_X1_needState l hl0 g A _ false) zn_X1_needState (lw_S q338 q339 q39 q340) (by decide) (by decide) hK (fun _ h => h) hS hT rfl hl.1 (Nat.le_of_ble_eq_true rfl) dX1_clear_31 ⟨by show _ + 1 ≤ _; omega, by show _ + 6 ≤ _; omega⟩) hS hout hlocks (fun E hE => by obtain ⟨rfl, h0⟩ := hE; exact Or.inr (⟨rfl, by unfold m_clear; first | exact absurd h0 (by decide) | (simp [zu, h0, hm_2, c_5, c_8]; done) | (fail)⟩)) (by show _ + 1 ≤ 2; omega) (by show _ + 6 ≤ 12; omega) (fun _ H locs hx_9 hT _ _ hS => ?_)
      cases hx_9
    · refine lv_iconst (v := 1) hx hb dX1_clear_26 (by decide) ?_
      refine lv_goto (tgt := 31) hx hb dX1_clear_27 (by decide) ?_
      refine zm_topi (y := zb true) rfl ?_
      refine zxc_v (zxr_S (As := [.int (zb true)]) (rest := []) ⟨hx, hb, hml, hown, hts⟩ (ct_X1_needState l hl0 g A _ true) zn_X1_needState (lw_S q338 q339 q39 q340) (by decide) (by decide) hK (fun _ h => h) hS hT rfl hl.1 (Nat.le_of_ble_eq_true rfl) dX1_clear_31 ⟨by show _ + 1 ≤ _; omega, by show _ + 6 ≤ _; omega⟩) hS hout hlocks (fun E hE => by obtain ⟨rfl, h0⟩ := hE; exact Or.inr (⟨rfl, by unfold m_clear; first | exact absurd h0 (by decide) | (simp [zu, h0, hm_2, c_5, c_8]; done) | (fail)⟩)) (by show _ + 1 ≤ 2; omega) (by show _ + 6 ≤ 12; omega) (fun _ H locs hx_10 hT _ _ hS => ?_)
      refine lv_aload_n hx hb dX1_clear_34 rfl (lv_at hl 0 rfl) ?_
      refine zt_getN hx hb hts in_X4 hown hK.1 hT (hY.p hq_4) rfl 12 (by decide) (va_Nw.use (A := args) rfl (hK.2.1.1 _ _ _ _ _ _ q406)) (fun _ h => h) rfl dX1_clear_35 ?_
      refine lv_istore_n (lv' := [(3, .int (X 18 x.toNatClampNeg)), (2, .ref (S.pa x.toNatClampNeg)), (0, .ref (S.A 0)), (1, .int x)]) hx hb dX1_clear_38 rfl hl (by decide) rfl (fun ls hl => ?_)
      refine lv_aload_n hx hb dX1_clear_39 rfl (lv_at hl 1 rfl) ?_
      refine lv_iconst (v := 0) hx hb dX1_clear_40 (by decide) ?_
      refine zt_putN hx hb hts in_X4 tyX4 tyX4_ok nmX4 hown hK.1 hT hS (hY.p hq_4) rfl 10 (by decide) (va_Nw.use (A := args) rfl (hK.2.1.1 _ _ _ _ _ _ q401)) (fun _ h => h) rfl (v := .int 0) (tyX4_ok 10 (by decide)) (zm_nz (Or.inl rfl)) rfl (show 10 < 20 from by decide) dX1_clear_41 (fun H locs hT hS => ?_)
      obtain ⟨T, hT, hY⟩ : ∃ T1, zTH g A T1 H ∧ zSy S g (zu X 9 x.toNatClampNeg 0) T1 := ⟨_, hT, hY.pw hq_4 9 0 rfl (zpF_s S X 10 9 x.toNatClampNeg _ (by decide))⟩
      refine lv_aload_n hx hb dX1_clear_44 rfl (lv_at hl 1 rfl) ?_
      refine lv_iconst (v := 0) hx hb dX1_clear_45 (by decide) ?_
      refine zt_putN hx hb hts in_X4 tyX4 tyX4_ok nmX4 hown hK.1 hT hS (hY.p hq_4) rfl 12 (by decide) (va_Nw.use (A := args) rfl (hK.2.1.1 _ _ _ _ _ _ q406)) (fun _ h => h) rfl (v := .int 0) (tyX4_ok 12 (by decide)) rfl rfl (show 12 < 20 from by decide) dX1_clear_46 (fun H locs hT hS => ?_)
      obtain ⟨T, hT, hY⟩ : ∃ T1, zTH g A T1 H ∧ zSy S g (zu (zu X 9 x.toNatClampNeg 0) 18 x.toNatClampNeg 0) T1 := ⟨_, hT, hY.pw hq_4 18 0 rfl (zpF_s S (zu X 9 x.toNatClampNeg 0) 12 18 x.toNatClampNeg _ (by decide))⟩
      refine lv_iload_n hx hb dX1_clear_49 rfl (lv_at hl 0 rfl) ?_
      have hY0 := hY.hid 0 0 0 (Or.inl rfl)
      rw [zu_comm _ (show (18 : Nat) ≠ 0 by decide), zu_comm _ (show (9 : Nat) ≠ 0 by decide)] at hY0
      have e1 : m_clear X x = (X 18 x.toNatClampNeg, zu (zu (zu X 0 0 0) 9 x.toNatClampNeg 0) 18 x.toNatClampNeg 0) := by simp [m_clear, hm_2, c_5, c_8, hx_10]
      exact vx_ret (ze_i hx hb hr hlocks hS dX1_clear_50 (by show _ ≤ 2; omega) (by show _ ≤ 12; omega) T (by rw [e1]; exact ⟨⟨rfl, by simp [zu]⟩, hY0⟩) hT)
