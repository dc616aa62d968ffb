/-! THE REFERENCE's METHODS, 2: their contracts -/
theorem zn_X3_gate : zN yX3_gate 2 := by decide +kernel
set_option maxHeartbeats 4000000 in
theorem ct_X3_gate (l : Launch) (g : zG) (A : Nat → Prop) (mo : Nat) (ma : Nat → Nat) (X : zX) (x : Int32) (er : Int32) (hI : MH X) : Met l yX3_gate (ws_ yX3_gate cX3_gate 3 (some .int)) (zR 4 0 0) (zP [.ref mo, .int x, .int er] g A (zMX g A mo ma X)) (va_Qi (fun rz_ (_ : Unit) => rz_ = (m_gate X x er).1) (fun (_ : Unit) t => zMX g A mo ma ((m_gate X x er).2) t.heap) A) 0 0 A := by
  refine zb_met (by decide) (Nat.le_of_ble_eq_true rfl) ?_
  intro p e s m args below meth c ls hx hb hr hml hown hts hlocks hnm hK hX ha hl
  have hown : s.vm.findClass RX3 = some m.cls := hown
  have hS : va_S A s.heap s.heap [] := va_S.rf
  have hl : lv_has ls 3 [(0, .ref mo), (1, .int x), (2, .int er)] := hl
  have hn60 := hI.1.2
  refine lv_aload_n hx hb dX3_gate_0 rfl (lv_at hl 0 rfl) ?_
  refine lv_aload_n hx hb dX3_gate_1 rfl (lv_at hl 0 rfl) ?_
  refine lv_iload_n hx hb dX3_gate_2 rfl (lv_at hl 1 rfl) ?_
  refine lv_iconst (v := 3) hx hb dX3_gate_3 (by decide) ?_
  refine zc_i (zr_V (As := [.int x, .int 3]) (rest := [.ref mo]) ⟨hx, hb, hml, hown, hts⟩ (ct_X3_kindCode l g A mo ma X x 3 hI) zn_X3_kindCode (lw_V q1185 q1187 qs23 q48 q1188) rfl (by decide) (by decide) hK (fun _ h => h) hS hX (zx_recv hK hX) rfl hl.1 (Nat.le_of_ble_eq_true rfl) dX3_gate_4 ⟨Nat.le_refl _, Nat.le_refl _⟩) hS (fun _ h => h) (fun r _ H locs r_1 hX _ _ hS => ?_)
  subst r_1
  rcases mKc_c hI x 3 with ⟨k_2, e_3⟩ | ⟨p, hp, rfl, k_2, e_3⟩ | ⟨p, hp, rfl, k_2, e_3⟩
  · refine zm_topi (y := 1) e_3 ?_
    refine zx_put hx hb hown hts hK hX hS 0 (by decide) rfl q1021 rfl rfl rfl rfl dX3_gate_7 (fun H locs hX hS => ?_)
    refine lv_aload_n hx hb dX3_gate_10 rfl (lv_at hl 0 rfl) ?_
    refine lv_aload_n hx hb dX3_gate_11 rfl (lv_at hl 0 rfl) ?_
    refine zx_get hx hb hown hts hK hX 0 (by decide) q1021 rfl rfl dX3_gate_12 ?_
    refine zm_topi (y := 1) (by simp [zu]) ?_
    refine lv_if_ne (tgt := 32) hx hb dX3_gate_15 (by decide) (fun _ => ?_) (fun c_4 => absurd c_4 (by decide))
    refine lv_aload_n hx hb dX3_gate_32 rfl (lv_at hl 0 rfl) ?_
    refine zx_get hx hb hown hts hK hX 0 (by decide) q1021 rfl rfl dX3_gate_33 ?_
    refine zm_topi (y := 1) (by simp [zu]) ?_
    refine zx_put hx hb hown hts hK hX hS 0 (by decide) rfl q1021 rfl rfl rfl rfl dX3_gate_36 (fun H locs hX hS => ?_)
    rw [zu_zu] at hX
    refine lv_aload_n hx hb dX3_gate_39 rfl (lv_at hl 0 rfl) ?_
    refine zx_get hx hb hown hts hK hX 0 (by decide) q1021 rfl rfl dX3_gate_40 ?_
    refine zm_topi (y := 1) (by simp [zu]) ?_
    refine lv_if_le (tgt := 48) hx hb dX3_gate_43 (by decide) (fun c_5 => absurd c_5 (by decide)) (fun _ => ?_)
    refine lv_iconst (v := 0) hx hb dX3_gate_46 (by decide) ?_
    have e1 : (0 : Int32) = (m_gate X x er).1 := by first | (simp [m_gate, mHd_w, mIn_w, mWs_w, mIs_w, mN_w, mK_w, mBo_w0, zu_zu, k_2, e_3]; done) | (simp [m_gate, mHd_w, mIn_w, mWs_w, mIs_w, mN_w, mK_w, mBo_w0, zu_zu, k_2, e_3, zin]; done)
    have e2 : zu X 0 0 1 = (m_gate X x er).2 := by first | (simp [m_gate, mHd_w, mIn_w, mWs_w, mIs_w, mN_w, mK_w, mBo_w0, zu_zu, k_2, e_3]; done) | (simp [m_gate, mHd_w, mIn_w, mWs_w, mIs_w, mN_w, mK_w, mBo_w0, zu_zu, k_2, e_3, zin]; done)
    rw [e2] at hX
    exact ze_i hx hb hr hlocks hS dX3_gate_47 (Nat.le_refl _) (Nat.le_refl _) () e1 hX
  · refine zm_topi (y := 2) e_3 ?_
    have hcp : (nI p).toNatClampNeg = p := nI_clamp (by omega)
    refine zx_put hx hb hown hts hK hX hS 0 (by decide) rfl q1021 rfl rfl rfl rfl dX3_gate_7 (fun H locs hX hS => ?_)
    refine lv_aload_n hx hb dX3_gate_10 rfl (lv_at hl 0 rfl) ?_
    refine lv_aload_n hx hb dX3_gate_11 rfl (lv_at hl 0 rfl) ?_
    refine zx_get hx hb hown hts hK hX 0 (by decide) q1021 rfl rfl dX3_gate_12 ?_
    refine zm_topi (y := 2) (by simp [zu]) ?_
    refine lv_if_ne (tgt := 32) hx hb dX3_gate_15 (by decide) (fun _ => ?_) (fun c_6 => absurd c_6 (by decide))
    refine lv_aload_n hx hb dX3_gate_32 rfl (lv_at hl 0 rfl) ?_
    refine zx_get hx hb hown hts hK hX 0 (by decide) q1021 rfl rfl dX3_gate_33 ?_
    refine zm_topi (y := 2) (by simp [zu]) ?_
    refine zx_put hx hb hown hts hK hX hS 0 (by decide) rfl q1021 rfl rfl rfl rfl dX3_gate_36 (fun H locs hX hS => ?_)
    rw [zu_zu] at hX
    refine lv_aload_n hx hb dX3_gate_39 rfl (lv_at hl 0 rfl) ?_
    refine zx_get hx hb hown hts hK hX 0 (by decide) q1021 rfl rfl dX3_gate_40 ?_
    refine zm_topi (y := 2) (by simp [zu]) ?_
    refine lv_if_le (tgt := 48) hx hb dX3_gate_43 (by decide) (fun c_7 => absurd c_7 (by decide)) (fun _ => ?_)
    refine lv_iconst (v := 0) hx hb dX3_gate_46 (by decide) ?_
    have e1 : (0 : Int32) = (m_gate X (nI p) er).1 := by first | (simp [m_gate, mHd_w, mIn_w, mWs_w, mIs_w, mN_w, mK_w, mBo_w0, zu_zu, hcp, k_2, e_3]; done) | (simp [m_gate, mHd_w, mIn_w, mWs_w, mIs_w, mN_w, mK_w, mBo_w0, zu_zu, hcp, k_2, e_3, zin]; done)
    have e2 : zu X 0 0 2 = (m_gate X (nI p) er).2 := by first | (simp [m_gate, mHd_w, mIn_w, mWs_w, mIs_w, mN_w, mK_w, mBo_w0, zu_zu, hcp, k_2, e_3]; done) | (simp [m_gate, mHd_w, mIn_w, mWs_w, mIs_w, mN_w, mK_w, mBo_w0, zu_zu, hcp, k_2, e_3, zin]; done)
    rw [e2] at hX
    exact ze_i hx hb hr hlocks hS dX3_gate_47 (Nat.le_refl _) (Nat.le_refl _) () e1 hX
  · refine zm_topi (y := 0) e_3 ?_
    have hcp : (nI p).toNatClampNeg = p := nI_clamp (by omega)
    refine zx_put hx hb hown hts hK hX hS 0 (by decide) rfl q1021 rfl rfl rfl rfl dX3_gate_7 (fun H locs hX hS => ?_)
    refine lv_aload_n hx hb dX3_gate_10 rfl (lv_at hl 0 rfl) ?_
    refine lv_aload_n hx hb dX3_gate_11 rfl (lv_at hl 0 rfl) ?_
    refine zx_get hx hb hown hts hK hX 0 (by decide) q1021 rfl rfl dX3_gate_12 ?_
    refine zm_topi (y := 0) (by simp [zu]) ?_
    refine lv_if_ne (tgt := 32) hx hb dX3_gate_15 (by decide) (fun c_8 => absurd (by decide) c_8) (fun _ => ?_)
    refine lv_iload_n hx hb dX3_gate_18 rfl (lv_at hl 2 rfl) ?_
    refine lv_bipush (v := (-5)) hx hb dX3_gate_19 (by decide) ?_
    refine lv_iconst (v := 5) hx hb dX3_gate_21 (by decide) ?_
    refine zc_i (zr_S (As := [.int er, .int (-5), .int 5]) (rest := [.ref mo]) ⟨hx, hb, hml, hown, hts⟩ (ct_X3_in l g A (zMX g A mo ma (zu X 0 0 0)) er (-5) 5) zn_X3_in (lw_S q1130 q1131 q48 q1132) (by decide) (by decide) hK (fun _ h => h) hS hX rfl hl.1 (Nat.le_of_ble_eq_true rfl) dX3_gate_22 ⟨Nat.le_refl _, Nat.le_refl _⟩) hS (fun _ h => h) (fun r _ H locs r_9 hX _ _ hS => ?_)
    subst r_9
    refine zl_ifne (tgt := 32) hx hb dX3_gate_25 (by decide) (fun c_10 => ?_) (fun c_10 => ?_)
    · refine lv_aload_n hx hb dX3_gate_32 rfl (lv_at hl 0 rfl) ?_
      refine zx_get hx hb hown hts hK hX 0 (by decide) q1021 rfl rfl dX3_gate_33 ?_
      refine zm_topi (y := 0) (by simp [zu]) ?_
      refine zx_put hx hb hown hts hK hX hS 0 (by decide) rfl q1021 rfl rfl rfl rfl dX3_gate_36 (fun H locs hX hS => ?_)
      rw [zu_zu] at hX
      refine lv_aload_n hx hb dX3_gate_39 rfl (lv_at hl 0 rfl) ?_
      refine zx_get hx hb hown hts hK hX 0 (by decide) q1021 rfl rfl dX3_gate_40 ?_
      refine zm_topi (y := 0) (by simp [zu]) ?_
      refine lv_if_le (tgt := 48) hx hb dX3_gate_43 (by decide) (fun _ => ?_) (fun c_11 => absurd (by decide) c_11)
      refine lv_aload_n hx hb dX3_gate_48 rfl (lv_at hl 0 rfl) ?_
      refine zx_get hx hb hown hts hK hX 16 (by decide) q1037 rfl rfl dX3_gate_49 ?_
      refine lv_iload_n hx hb dX3_gate_52 rfl (lv_at hl 1 rfl) ?_
      refine lv_aload_n hx hb dX3_gate_53 rfl (lv_at hl 0 rfl) ?_
      refine zx_get hx hb hown hts hK hX 14 (by decide) q1035 rfl rfl dX3_gate_54 ?_
      refine lv_iload_n hx hb dX3_gate_57 rfl (lv_at hl 1 rfl) ?_
      refine zx_ld (i := p) hx hb hK hX 14 rfl rfl (n := 60) rfl (by omega) dX3_gate_58 ?_
      refine zm_topi (y := X 14 p) (by simp [zu]) ?_
      refine lv_iload_n hx hb dX3_gate_59 rfl (lv_at hl 2 rfl) ?_
      refine lv_iadd hx hb dX3_gate_60 ?_
      refine zx_st (i := p) hx hb hK hX hS 16 rfl rfl (n := 60) rfl (by omega) dX3_gate_61 (fun H locs hX hS => ?_)
      refine lv_aload_n hx hb dX3_gate_62 rfl (lv_at hl 0 rfl) ?_
      refine zx_get hx hb hown hts hK hX 17 (by decide) q1038 rfl rfl dX3_gate_63 ?_
      refine lv_iload_n hx hb dX3_gate_66 rfl (lv_at hl 1 rfl) ?_
      refine lv_iconst (v := 1) hx hb dX3_gate_67 (by decide) ?_
      refine zx_stz (i := p) hx hb hK hX hS 17 rfl rfl (n := 60) rfl (by omega) (Or.inr rfl) dX3_gate_68 (fun H locs hX hS => ?_)
      refine lv_aload_n hx hb dX3_gate_69 rfl (lv_at hl 0 rfl) ?_
      refine zx_get hx hb hown hts hK hX 16 (by decide) q1037 rfl rfl dX3_gate_70 ?_
      refine lv_iload_n hx hb dX3_gate_73 rfl (lv_at hl 1 rfl) ?_
      refine zx_ld (i := p) hx hb hK hX 16 rfl rfl (n := 60) rfl (by omega) dX3_gate_74 ?_
      refine zm_topi (y := (X 14 p) + er) (by simp [zu]) ?_
      have e1 : ((X 14 p) + er : Int32) = (m_gate X (nI p) er).1 := by first | (simp [m_gate, mHd_w, mIn_w, mWs_w, mIs_w, mN_w, mK_w, mBo_w0, zu_zu, hcp, k_2, e_3, c_10]; done) | (simp [m_gate, mHd_w, mIn_w, mWs_w, mIs_w, mN_w, mK_w, mBo_w0, zu_zu, hcp, k_2, e_3, c_10, zin]; done)
      have e2 : zu (zu (zu X 0 0 0) 16 p ((X 14 p) + er)) 17 p 1 = (m_gate X (nI p) er).2 := by first | (simp [m_gate, mHd_w, mIn_w, mWs_w, mIs_w, mN_w, mK_w, mBo_w0, zu_zu, hcp, k_2, e_3, c_10]; done) | (simp [m_gate, mHd_w, mIn_w, mWs_w, mIs_w, mN_w, mK_w, mBo_w0, zu_zu, hcp, k_2, e_3, c_10, zin]; done)
      rw [e2] at hX
      exact ze_i hx hb hr hlocks hS dX3_gate_75 (Nat.le_refl _) (Nat.le_refl _) () e1 hX
    · refine lv_iconst (v := 2) hx hb dX3_gate_28 (by decide) ?_
      refine lv_goto (tgt := 36) hx hb dX3_gate_29 (by decide) ?_
      refine zx_put hx hb hown hts hK hX hS 0 (by decide) rfl q1021 rfl rfl rfl rfl dX3_gate_36 (fun H locs hX hS => ?_)
      rw [zu_zu] at hX
      refine lv_aload_n hx hb dX3_gate_39 rfl (lv_at hl 0 rfl) ?_
      refine zx_get hx hb hown hts hK hX 0 (by decide) q1021 rfl rfl dX3_gate_40 ?_
      refine zm_topi (y := 2) (by simp [zu]) ?_
      refine lv_if_le (tgt := 48) hx hb dX3_gate_43 (by decide) (fun c_12 => absurd c_12 (by decide)) (fun _ => ?_)
      refine lv_iconst (v := 0) hx hb dX3_gate_46 (by decide) ?_
      have e1 : (0 : Int32) = (m_gate X (nI p) er).1 := by first | (simp [m_gate, mHd_w, mIn_w, mWs_w, mIs_w, mN_w, mK_w, mBo_w0, zu_zu, hcp, k_2, e_3, c_10]; done) | (simp [m_gate, mHd_w, mIn_w, mWs_w, mIs_w, mN_w, mK_w, mBo_w0, zu_zu, hcp, k_2, e_3, c_10, zin]; done)
      have e2 : zu X 0 0 2 = (m_gate X (nI p) er).2 := by first | (simp [m_gate, mHd_w, mIn_w, mWs_w, mIs_w, mN_w, mK_w, mBo_w0, zu_zu, hcp, k_2, e_3, c_10]; done) | (simp [m_gate, mHd_w, mIn_w, mWs_w, mIs_w, mN_w, mK_w, mBo_w0, zu_zu, hcp, k_2, e_3, c_10, zin]; done)
      rw [e2] at hX
      exact ze_i hx hb hr hlocks hS dX3_gate_47 (Nat.le_refl _) (Nat.le_refl _) () e1 hX
theorem zn_X3_examine : zN yX3_examine 1 := by decide +kernel
set_option maxHeartbeats 4000000 in
theorem ct_X3_examine (l : Launch) (g : zG) (A : Nat → Prop) (mo : Nat) (ma : Nat → Nat) (X : zX) (x : Int32) (hI : MH X) (hz12 : ∀ p, X 12 p = 0 ∨ X 12 p = 1) : Met l yX3_examine (ws_ yX3_examine cX3_examine 5 (some .int)) (zR 3 0 0) (zP [.ref mo, .int x] g A (zMX g A mo ma X)) (va_Qi (fun rz_ (_ : Unit) => rz_ = (m_examine X x).1) (fun (_ : Unit) t => zMX g A mo ma ((m_examine X x).2) t.heap) A) 0 0 A := by
  refine zb_met (by decide) (Nat.le_of_ble_eq_true rfl) ?_
  intro p e s m args below meth c ls hx hb hr hml hown hts hlocks hnm hK hX ha hl
  have hown : s.vm.findClass RX3 = some m.cls := hown
  have hS : va_S A s.heap s.heap [] := va_S.rf
  have hl : lv_has ls 5 [(0, .ref mo), (1, .int x)] := hl
  have hn60 := hI.1.2
  refine lv_aload_n hx hb dX3_examine_0 rfl (lv_at hl 0 rfl) ?_
  refine lv_aload_n hx hb dX3_examine_1 rfl (lv_at hl 0 rfl) ?_
  refine lv_iload_n hx hb dX3_examine_2 rfl (lv_at hl 1 rfl) ?_
  refine zc_i (zr_V (As := [.int x]) (rest := [.ref mo]) ⟨hx, hb, hml, hown, hts⟩ (ct_X3_isPart l g A mo ma X x) zn_X3_isPart (lw_V q1142 q1144 qs16 q48 q1145) rfl (by decide) (by decide) hK (fun _ h => h) hS hX (zx_recv hK hX) rfl hl.1 (Nat.le_of_ble_eq_true rfl) dX3_examine_3 ⟨Nat.le_refl _, Nat.le_refl _⟩) hS (fun _ h => h) (fun r _ H locs r_1 hX _ _ hS => ?_)
  subst r_1
  refine zl_ifeq (tgt := 13) hx hb dX3_examine_6 (by decide) (fun c_2 => ?_) (fun c_2 => ?_)
  · refine lv_iconst (v := 1) hx hb dX3_examine_13 (by decide) ?_
    refine zx_put hx hb hown hts hK hX hS 0 (by decide) rfl q1021 rfl rfl rfl rfl dX3_examine_14 (fun H locs hX hS => ?_)
    refine lv_aload_n hx hb dX3_examine_17 rfl (lv_at hl 0 rfl) ?_
    refine zx_get hx hb hown hts hK hX 0 (by decide) q1021 rfl rfl dX3_examine_18 ?_
    refine zm_topi (y := 1) (by simp [zu]) ?_
    refine lv_if_le (tgt := 26) hx hb dX3_examine_21 (by decide) (fun c_3 => absurd c_3 (by decide)) (fun _ => ?_)
    refine lv_iconst (v := 0) hx hb dX3_examine_24 (by decide) ?_
    have e1 : (0 : Int32) = (m_examine X x).1 := by first | (simp [m_examine, mHd_w, mIn_w, mWs_w, mIs_w, mN_w, mK_w, mBo_w0, zu_zu, c_2]; done) | (simp [m_examine, mHd_w, mIn_w, mWs_w, mIs_w, mN_w, mK_w, mBo_w0, zu_zu, c_2, zin]; done)
    have e2 : zu X 0 0 1 = (m_examine X x).2 := by first | (simp [m_examine, mHd_w, mIn_w, mWs_w, mIs_w, mN_w, mK_w, mBo_w0, zu_zu, c_2]; done) | (simp [m_examine, mHd_w, mIn_w, mWs_w, mIs_w, mN_w, mK_w, mBo_w0, zu_zu, c_2, zin]; done)
    rw [e2] at hX
    exact ze_i hx hb hr hlocks hS dX3_examine_25 (Nat.le_refl _) (Nat.le_refl _) () e1 hX
  · obtain ⟨p, hp, rfl⟩ := mIs_t hI c_2
    have hcp : (nI p).toNatClampNeg = p := nI_clamp (by omega)
    refine lv_iconst (v := 0) hx hb dX3_examine_9 (by decide) ?_
    refine lv_goto (tgt := 14) hx hb dX3_examine_10 (by decide) ?_
    refine zx_put hx hb hown hts hK hX hS 0 (by decide) rfl q1021 rfl rfl rfl rfl dX3_examine_14 (fun H locs hX hS => ?_)
    refine lv_aload_n hx hb dX3_examine_17 rfl (lv_at hl 0 rfl) ?_
    refine zx_get hx hb hown hts hK hX 0 (by decide) q1021 rfl rfl dX3_examine_18 ?_
    refine zm_topi (y := 0) (by simp [zu]) ?_
    refine lv_if_le (tgt := 26) hx hb dX3_examine_21 (by decide) (fun _ => ?_) (fun c_4 => absurd (by decide) c_4)
    have hk4 := (hI.2.1 _ hp).2
    refine lv_aload_n hx hb dX3_examine_26 rfl (lv_at hl 0 rfl) ?_
    refine zx_get hx hb hown hts hK hX 21 (by decide) q1042 rfl rfl dX3_examine_27 ?_
    refine lv_aload_n hx hb dX3_examine_30 rfl (lv_at hl 0 rfl) ?_
    refine zx_get hx hb hown hts hK hX 2 (by decide) q1023 rfl rfl dX3_examine_31 ?_
    refine lv_iload_n hx hb dX3_examine_34 rfl (lv_at hl 1 rfl) ?_
    refine zx_ld (i := p) hx hb hK hX 2 rfl rfl (n := 60) rfl (by omega) dX3_examine_35 ?_
    refine zm_topi (y := X 2 p) (by simp [zu]) ?_
    refine zm_topi (y := nI (mK X p)) ((hI.2.1 _ hp).1) ?_
    refine zx_ld (i := mK X p) hx hb hK hX 21 rfl rfl (n := 5) rfl (by omega) dX3_examine_36 ?_
    refine zm_topi (y := X 21 (mK X p)) (by simp [zu]) ?_
    refine lv_istore_n (lv' := [(2, .int (X 21 (mK X p))), (0, .ref mo), (1, .int (nI p))]) hx hb dX3_examine_37 rfl hl (by decide) rfl (fun ls hl => ?_)
    refine lv_iload_n hx hb dX3_examine_38 rfl (lv_at hl 0 rfl) ?_
    refine lv_if_le (tgt := 87) hx hb dX3_examine_39 (by decide) (fun c_5 => ?_) (fun c_5 => ?_)
    · refine lv_iconst (v := 0) hx hb dX3_examine_87 (by decide) ?_
      refine lv_istore_n (lv' := [(3, .int 0), (2, .int (X 21 (mK X p))), (0, .ref mo), (1, .int (nI p))]) hx hb dX3_examine_88 rfl hl (by decide) rfl (fun ls hl => ?_)
      refine lv_aload_n hx hb dX3_examine_89 rfl (lv_at hl 2 rfl) ?_
      refine lv_iload_n hx hb dX3_examine_90 rfl (lv_at hl 0 rfl) ?_
      refine lv_if_eq (tgt := 98) hx hb dX3_examine_91 (by decide) (fun _ => ?_) (fun c_6 => absurd (by decide) c_6)
      refine lv_iconst (v := 2) hx hb dX3_examine_98 (by decide) ?_
      refine zx_put hx hb hown hts hK hX hS 0 (by decide) rfl q1021 rfl rfl rfl rfl dX3_examine_99 (fun H locs hX hS => ?_)
      rw [zu_zu] at hX
      refine lv_aload_n hx hb dX3_examine_102 rfl (lv_at hl 2 rfl) ?_
      refine zx_get hx hb hown hts hK hX 0 (by decide) q1021 rfl rfl dX3_examine_103 ?_
      refine zm_topi (y := 2) (by simp [zu]) ?_
      refine lv_if_le (tgt := 111) hx hb dX3_examine_106 (by decide) (fun c_7 => absurd c_7 (by decide)) (fun _ => ?_)
      refine lv_iconst (v := 0) hx hb dX3_examine_109 (by decide) ?_
      have e1 : (0 : Int32) = (m_examine X (nI p)).1 := by first | (simp [m_examine, mHd_w, mIn_w, mWs_w, mIs_w, mN_w, mK_w, mBo_w0, zu_zu, hcp, c_2, c_5]; done) | (simp [m_examine, mHd_w, mIn_w, mWs_w, mIs_w, mN_w, mK_w, mBo_w0, zu_zu, hcp, c_2, c_5, zin]; done)
      have e2 : zu X 0 0 2 = (m_examine X (nI p)).2 := by first | (simp [m_examine, mHd_w, mIn_w, mWs_w, mIs_w, mN_w, mK_w, mBo_w0, zu_zu, hcp, c_2, c_5]; done) | (simp [m_examine, mHd_w, mIn_w, mWs_w, mIs_w, mN_w, mK_w, mBo_w0, zu_zu, hcp, c_2, c_5, zin]; done)
      rw [e2] at hX
      exact ze_i hx hb hr hlocks hS dX3_examine_110 (Nat.le_refl _) (Nat.le_refl _) () e1 hX
    · refine lv_aload_n hx hb dX3_examine_42 rfl (lv_at hl 1 rfl) ?_
      refine zx_get hx hb hown hts hK hX 7 (by decide) q1028 rfl rfl dX3_examine_43 ?_
      refine lv_iload_n hx hb dX3_examine_46 rfl (lv_at hl 2 rfl) ?_
      refine zx_ld (i := p) hx hb hK hX 7 rfl rfl (n := 60) rfl (by omega) dX3_examine_47 ?_
      refine zm_topi (y := X 7 p) (by simp [zu]) ?_
      refine lv_iload_n hx hb dX3_examine_48 rfl (lv_at hl 0 rfl) ?_
      refine lv_aload_n hx hb dX3_examine_49 rfl (lv_at hl 1 rfl) ?_
      refine zx_get hx hb hown hts hK hX 22 (by decide) q1043 rfl rfl dX3_examine_50 ?_
      refine lv_aload_n hx hb dX3_examine_53 rfl (lv_at hl 1 rfl) ?_
      refine zx_get hx hb hown hts hK hX 2 (by decide) q1023 rfl rfl dX3_examine_54 ?_
      refine lv_iload_n hx hb dX3_examine_57 rfl (lv_at hl 2 rfl) ?_
      refine zx_ld (i := p) hx hb hK hX 2 rfl rfl (n := 60) rfl (by omega) dX3_examine_58 ?_
      refine zm_topi (y := X 2 p) (by simp [zu]) ?_
      refine zm_topi (y := nI (mK X p)) ((hI.2.1 _ hp).1) ?_
      refine zx_ld (i := mK X p) hx hb hK hX 22 rfl rfl (n := 5) rfl (by omega) dX3_examine_59 ?_
      refine zm_topi (y := X 22 (mK X p)) (by simp [zu]) ?_
      refine lv_isub hx hb dX3_examine_60 ?_
      refine lv_icmp_lt (tgt := 87) hx hb dX3_examine_61 (by decide) (fun c_8 => ?_) (fun c_8 => ?_)
      · refine lv_iconst (v := 0) hx hb dX3_examine_87 (by decide) ?_
        refine lv_istore_n (lv' := [(3, .int 0), (2, .int (X 21 (mK X p))), (0, .ref mo), (1, .int (nI p))]) hx hb dX3_examine_88 rfl hl (by decide) rfl (fun ls hl => ?_)
        refine lv_aload_n hx hb dX3_examine_89 rfl (lv_at hl 2 rfl) ?_
        refine lv_iload_n hx hb dX3_examine_90 rfl (lv_at hl 0 rfl) ?_
        refine lv_if_eq (tgt := 98) hx hb dX3_examine_91 (by decide) (fun _ => ?_) (fun c_9 => absurd (by decide) c_9)
        refine lv_iconst (v := 2) hx hb dX3_examine_98 (by decide) ?_
        refine zx_put hx hb hown hts hK hX hS 0 (by decide) rfl q1021 rfl rfl rfl rfl dX3_examine_99 (fun H locs hX hS => ?_)
        rw [zu_zu] at hX
        refine lv_aload_n hx hb dX3_examine_102 rfl (lv_at hl 2 rfl) ?_
        refine zx_get hx hb hown hts hK hX 0 (by decide) q1021 rfl rfl dX3_examine_103 ?_
        refine zm_topi (y := 2) (by simp [zu]) ?_
        refine lv_if_le (tgt := 111) hx hb dX3_examine_106 (by decide) (fun c_10 => absurd c_10 (by decide)) (fun _ => ?_)
        refine lv_iconst (v := 0) hx hb dX3_examine_109 (by decide) ?_
        have e1 : (0 : Int32) = (m_examine X (nI p)).1 := by first | (simp [m_examine, mHd_w, mIn_w, mWs_w, mIs_w, mN_w, mK_w, mBo_w0, zu_zu, hcp, c_2, c_5, c_8]; done) | (simp [m_examine, mHd_w, mIn_w, mWs_w, mIs_w, mN_w, mK_w, mBo_w0, zu_zu, hcp, c_2, c_5, c_8, zin]; done)
        have e2 : zu X 0 0 2 = (m_examine X (nI p)).2 := by first | (simp [m_examine, mHd_w, mIn_w, mWs_w, mIs_w, mN_w, mK_w, mBo_w0, zu_zu, hcp, c_2, c_5, c_8]; done) | (simp [m_examine, mHd_w, mIn_w, mWs_w, mIs_w, mN_w, mK_w, mBo_w0, zu_zu, hcp, c_2, c_5, c_8, zin]; done)
        rw [e2] at hX
        exact ze_i hx hb hr hlocks hS dX3_examine_110 (Nat.le_refl _) (Nat.le_refl _) () e1 hX
      · refine lv_aload_n hx hb dX3_examine_64 rfl (lv_at hl 1 rfl) ?_
        refine zx_get hx hb hown hts hK hX 5 (by decide) q1026 rfl rfl dX3_examine_65 ?_
        refine lv_iload_n hx hb dX3_examine_68 rfl (lv_at hl 2 rfl) ?_
        refine zx_ld (i := p) hx hb hK hX 5 rfl rfl (n := 60) rfl (by omega) dX3_examine_69 ?_
        refine zm_topi (y := X 5 p) (by simp [zu]) ?_
        refine lv_bipush (v := (-2)) hx hb dX3_examine_70 (by decide) ?_
        refine lv_icmp_eq (tgt := 87) hx hb dX3_examine_72 (by decide) (fun c_11 => ?_) (fun c_11 => ?_)
        · refine lv_iconst (v := 0) hx hb dX3_examine_87 (by decide) ?_
          refine lv_istore_n (lv' := [(3, .int 0), (2, .int (X 21 (mK X p))), (0, .ref mo), (1, .int (nI p))]) hx hb dX3_examine_88 rfl hl (by decide) rfl (fun ls hl => ?_)
          refine lv_aload_n hx hb dX3_examine_89 rfl (lv_at hl 2 rfl) ?_
          refine lv_iload_n hx hb dX3_examine_90 rfl (lv_at hl 0 rfl) ?_
          refine lv_if_eq (tgt := 98) hx hb dX3_examine_91 (by decide) (fun _ => ?_) (fun c_12 => absurd (by decide) c_12)
          refine lv_iconst (v := 2) hx hb dX3_examine_98 (by decide) ?_
          refine zx_put hx hb hown hts hK hX hS 0 (by decide) rfl q1021 rfl rfl rfl rfl dX3_examine_99 (fun H locs hX hS => ?_)
          rw [zu_zu] at hX
          refine lv_aload_n hx hb dX3_examine_102 rfl (lv_at hl 2 rfl) ?_
          refine zx_get hx hb hown hts hK hX 0 (by decide) q1021 rfl rfl dX3_examine_103 ?_
          refine zm_topi (y := 2) (by simp [zu]) ?_
          refine lv_if_le (tgt := 111) hx hb dX3_examine_106 (by decide) (fun c_13 => absurd c_13 (by decide)) (fun _ => ?_)
          refine lv_iconst (v := 0) hx hb dX3_examine_109 (by decide) ?_
          have e1 : (0 : Int32) = (m_examine X (nI p)).1 := by first | (simp [m_examine, mHd_w, mIn_w, mWs_w, mIs_w, mN_w, mK_w, mBo_w0, zu_zu, hcp, c_2, c_5, c_8, c_11]; done) | (simp [m_examine, mHd_w, mIn_w, mWs_w, mIs_w, mN_w, mK_w, mBo_w0, zu_zu, hcp, c_2, c_5, c_8, c_11, zin]; done)
          have e2 : zu X 0 0 2 = (m_examine X (nI p)).2 := by first | (simp [m_examine, mHd_w, mIn_w, mWs_w, mIs_w, mN_w, mK_w, mBo_w0, zu_zu, hcp, c_2, c_5, c_8, c_11]; done) | (simp [m_examine, mHd_w, mIn_w, mWs_w, mIs_w, mN_w, mK_w, mBo_w0, zu_zu, hcp, c_2, c_5, c_8, c_11, zin]; done)
          rw [e2] at hX
          exact ze_i hx hb hr hlocks hS dX3_examine_110 (Nat.le_refl _) (Nat.le_refl _) () e1 hX
        · refine lv_aload_n hx hb dX3_examine_75 rfl (lv_at hl 1 rfl) ?_
          refine lv_iload_n hx hb dX3_examine_76 rfl (lv_at hl 2 rfl) ?_
          refine zc_i (zr_V (As := [.int (nI p)]) (rest := []) ⟨hx, hb, hml, hown, hts⟩ (ct_X3_isBound l g A mo ma (zu X 0 0 0) p (hI.w 0 0 0 (by decide) (by decide) (by decide)) (by have hz_ := show p < mN X from hp; simpa [mN_w, m_moves, m_ends, mN_goes, mN_hl, mN_rc] using hz_) (by intro p; simpa [zu, m_moves, m_ends] using hz12 p)) zn_X3_isBound (lw_V q1149 q1151 qs17 q48 q1152) rfl (by decide) (by decide) hK (fun _ h => h) hS hX (zx_recv hK hX) rfl hl.1 (Nat.le_of_ble_eq_true rfl) dX3_examine_77 ⟨Nat.le_refl _, Nat.le_refl _⟩) hS (fun _ h => h) (fun r _ H locs r_14 hX _ _ hS => ?_)
          subst r_14
          refine zm_topi (y := X 12 (mHd X p)) (by simp [mN_w, mIs_w, mKc_w, mHd_w, mIi_w, mIn_w, mK_w, mH_w, mM_w, mW_w, zu]) ?_
          refine lv_if_ne (tgt := 87) hx hb dX3_examine_80 (by decide) (fun c_15 => ?_) (fun c_15 => ?_)
          · refine lv_iconst (v := 0) hx hb dX3_examine_87 (by decide) ?_
            refine lv_istore_n (lv' := [(3, .int 0), (2, .int (X 21 (mK X p))), (0, .ref mo), (1, .int (nI p))]) hx hb dX3_examine_88 rfl hl (by decide) rfl (fun ls hl => ?_)
            refine lv_aload_n hx hb dX3_examine_89 rfl (lv_at hl 2 rfl) ?_
            refine lv_iload_n hx hb dX3_examine_90 rfl (lv_at hl 0 rfl) ?_
            refine lv_if_eq (tgt := 98) hx hb dX3_examine_91 (by decide) (fun _ => ?_) (fun c_16 => absurd (by decide) c_16)
            refine lv_iconst (v := 2) hx hb dX3_examine_98 (by decide) ?_
            refine zx_put hx hb hown hts hK hX hS 0 (by decide) rfl q1021 rfl rfl rfl rfl dX3_examine_99 (fun H locs hX hS => ?_)
            rw [zu_zu] at hX
            refine lv_aload_n hx hb dX3_examine_102 rfl (lv_at hl 2 rfl) ?_
            refine zx_get hx hb hown hts hK hX 0 (by decide) q1021 rfl rfl dX3_examine_103 ?_
            refine zm_topi (y := 2) (by simp [zu]) ?_
            refine lv_if_le (tgt := 111) hx hb dX3_examine_106 (by decide) (fun c_17 => absurd c_17 (by decide)) (fun _ => ?_)
            refine lv_iconst (v := 0) hx hb dX3_examine_109 (by decide) ?_
            have e1 : (0 : Int32) = (m_examine X (nI p)).1 := by first | (simp [m_examine, mHd_w, mIn_w, mWs_w, mIs_w, mN_w, mK_w, mBo_w0, zu_zu, hcp, c_2, c_5, c_8, c_11, c_15]; done) | (simp [m_examine, mHd_w, mIn_w, mWs_w, mIs_w, mN_w, mK_w, mBo_w0, zu_zu, hcp, c_2, c_5, c_8, c_11, c_15, zin]; done)
            have e2 : zu X 0 0 2 = (m_examine X (nI p)).2 := by first | (simp [m_examine, mHd_w, mIn_w, mWs_w, mIs_w, mN_w, mK_w, mBo_w0, zu_zu, hcp, c_2, c_5, c_8, c_11, c_15]; done) | (simp [m_examine, mHd_w, mIn_w, mWs_w, mIs_w, mN_w, mK_w, mBo_w0, zu_zu, hcp, c_2, c_5, c_8, c_11, c_15, zin]; done)
            rw [e2] at hX
            exact ze_i hx hb hr hlocks hS dX3_examine_110 (Nat.le_refl _) (Nat.le_refl _) () e1 hX
          · refine lv_iconst (v := 1) hx hb dX3_examine_83 (by decide) ?_
            refine lv_goto (tgt := 88) hx hb dX3_examine_84 (by decide) ?_
            refine lv_istore_n (lv' := [(3, .int 1), (2, .int (X 21 (mK X p))), (0, .ref mo), (1, .int (nI p))]) hx hb dX3_examine_88 rfl hl (by decide) rfl (fun ls hl => ?_)
            refine lv_aload_n hx hb dX3_examine_89 rfl (lv_at hl 2 rfl) ?_
            refine lv_iload_n hx hb dX3_examine_90 rfl (lv_at hl 0 rfl) ?_
            refine lv_if_eq (tgt := 98) hx hb dX3_examine_91 (by decide) (fun c_18 => absurd c_18 (by decide)) (fun _ => ?_)
            refine lv_iconst (v := 0) hx hb dX3_examine_94 (by decide) ?_
            refine lv_goto (tgt := 99) hx hb dX3_examine_95 (by decide) ?_
            refine zx_put hx hb hown hts hK hX hS 0 (by decide) rfl q1021 rfl rfl rfl rfl dX3_examine_99 (fun H locs hX hS => ?_)
            rw [zu_zu] at hX
            refine lv_aload_n hx hb dX3_examine_102 rfl (lv_at hl 2 rfl) ?_
            refine zx_get hx hb hown hts hK hX 0 (by decide) q1021 rfl rfl dX3_examine_103 ?_
            refine zm_topi (y := 0) (by simp [zu]) ?_
            refine lv_if_le (tgt := 111) hx hb dX3_examine_106 (by decide) (fun _ => ?_) (fun c_19 => absurd (by decide) c_19)
            refine lv_aload_n hx hb dX3_examine_111 rfl (lv_at hl 2 rfl) ?_
            refine zx_get hx hb hown hts hK hX 7 (by decide) q1028 rfl rfl dX3_examine_112 ?_
            refine lv_iload_n hx hb dX3_examine_115 rfl (lv_at hl 3 rfl) ?_
            refine zx_ld (i := p) hx hb hK hX 7 rfl rfl (n := 60) rfl (by omega) dX3_examine_116 ?_
            refine zm_topi (y := X 7 p) (by simp [zu]) ?_
            refine lv_istore (lv' := [(4, .int (X 7 p)), (3, .int 1), (2, .int (X 21 (mK X p))), (0, .ref mo), (1, .int (nI p))]) hx hb dX3_examine_117 hl (by decide) rfl (fun ls hl => ?_)
            refine lv_aload_n hx hb dX3_examine_119 rfl (lv_at hl 3 rfl) ?_
            refine zx_get hx hb hown hts hK hX 7 (by decide) q1028 rfl rfl dX3_examine_120 ?_
            refine lv_iload_n hx hb dX3_examine_123 rfl (lv_at hl 4 rfl) ?_
            refine lv_iconst (v := 0) hx hb dX3_examine_124 (by decide) ?_
            refine zx_st (i := p) hx hb hK hX hS 7 rfl rfl (n := 60) rfl (by omega) dX3_examine_125 (fun H locs hX hS => ?_)
            refine lv_aload_n hx hb dX3_examine_126 rfl (lv_at hl 3 rfl) ?_
            refine zx_get hx hb hown hts hK hX 8 (by decide) q1029 rfl rfl dX3_examine_127 ?_
            refine lv_iload_n hx hb dX3_examine_130 rfl (lv_at hl 4 rfl) ?_
            refine lv_iconst (v := 0) hx hb dX3_examine_131 (by decide) ?_
            refine zx_st (i := p) hx hb hK hX hS 8 rfl rfl (n := 60) rfl (by omega) dX3_examine_132 (fun H locs hX hS => ?_)
            refine lv_iload hx hb dX3_examine_133 (lv_at hl 0 rfl) ?_
            have e1 : (X 7 p : Int32) = (m_examine X (nI p)).1 := by first | (simp [m_examine, mHd_w, mIn_w, mWs_w, mIs_w, mN_w, mK_w, mBo_w0, zu_zu, hcp, c_2, c_5, c_8, c_11, c_15]; done) | (simp [m_examine, mHd_w, mIn_w, mWs_w, mIs_w, mN_w, mK_w, mBo_w0, zu_zu, hcp, c_2, c_5, c_8, c_11, c_15, zin]; done)
            have e2 : zu (zu (zu X 0 0 0) 7 p 0) 8 p 0 = (m_examine X (nI p)).2 := by first | (simp [m_examine, mHd_w, mIn_w, mWs_w, mIs_w, mN_w, mK_w, mBo_w0, zu_zu, hcp, c_2, c_5, c_8, c_11, c_15]; done) | (simp [m_examine, mHd_w, mIn_w, mWs_w, mIs_w, mN_w, mK_w, mBo_w0, zu_zu, hcp, c_2, c_5, c_8, c_11, c_15, zin]; done)
            rw [e2] at hX
            exact ze_i hx hb hr hlocks hS dX3_examine_135 (Nat.le_refl _) (Nat.le_refl _) () e1 hX
theorem zn_X3_waive : zN yX3_waive 2 := by decide +kernel
set_option maxHeartbeats 4000000 in
theorem ct_X3_waive (l : Launch) (g : zG) (A : Nat → Prop) (mo : Nat) (ma : Nat → Nat) (X : zX) (x : Int32) (km : Int32) (hI : MH X) : Met l yX3_waive (ws_ yX3_waive cX3_waive 3 none) (zR 3 0 0) (zP [.ref mo, .int x, .int km] g A (zMX g A mo ma X)) (va_Qv (fun (_ : Unit) => True) (fun (_ : Unit) t => zMX g A mo ma (m_waive X x km) t.heap) A) 0 0 A := by
  refine zb_met (by decide) (Nat.le_of_ble_eq_true rfl) ?_
  intro p e s m args below meth c ls hx hb hr hml hown hts hlocks hnm hK hX ha hl
  have hown : s.vm.findClass RX3 = some m.cls := hown
  have hS : va_S A s.heap s.heap [] := va_S.rf
  have hl : lv_has ls 3 [(0, .ref mo), (1, .int x), (2, .int km)] := hl
  have hn60 := hI.1.2
  refine lv_aload_n hx hb dX3_waive_0 rfl (lv_at hl 0 rfl) ?_
  refine lv_aload_n hx hb dX3_waive_1 rfl (lv_at hl 0 rfl) ?_
  refine lv_iload_n hx hb dX3_waive_2 rfl (lv_at hl 1 rfl) ?_
  refine zc_i (zr_V (As := [.int x]) (rest := [.ref mo]) ⟨hx, hb, hml, hown, hts⟩ (ct_X3_isPart l g A mo ma X x) zn_X3_isPart (lw_V q1142 q1144 qs16 q48 q1145) rfl (by decide) (by decide) hK (fun _ h => h) hS hX (zx_recv hK hX) rfl hl.1 (Nat.le_of_ble_eq_true rfl) dX3_waive_3 ⟨Nat.le_refl _, Nat.le_refl _⟩) hS (fun _ h => h) (fun r _ H locs r_1 hX _ _ hS => ?_)
  subst r_1
  refine zl_ifne (tgt := 13) hx hb dX3_waive_6 (by decide) (fun c_2 => ?_) (fun c_2 => ?_)
  · obtain ⟨p, hp, rfl⟩ := mIs_t hI c_2
    have hcp : (nI p).toNatClampNeg = p := nI_clamp (by omega)
    have hk4 := (hI.2.1 _ hp).2
    refine lv_iload_n hx hb dX3_waive_13 rfl (lv_at hl 2 rfl) ?_
    refine lv_iconst (v := 1) hx hb dX3_waive_14 (by decide) ?_
    refine lv_sipush (v := 999) hx hb dX3_waive_15 (by decide) ?_
    refine zc_i (zr_S (As := [.int km, .int 1, .int 999]) (rest := [.ref mo]) ⟨hx, hb, hml, hown, hts⟩ (ct_X3_in l g A (zMX g A mo ma X) km 1 999) zn_X3_in (lw_S q1130 q1131 q48 q1132) (by decide) (by decide) hK (fun _ h => h) hS hX rfl hl.1 (Nat.le_of_ble_eq_true rfl) dX3_waive_18 ⟨Nat.le_refl _, Nat.le_refl _⟩) hS (fun _ h => h) (fun r _ H locs r_3 hX _ _ hS => ?_)
    subst r_3
    refine zl_ifeq (tgt := 28) hx hb dX3_waive_21 (by decide) (fun c_4 => ?_) (fun c_4 => ?_)
    · refine lv_iconst (v := 2) hx hb dX3_waive_28 (by decide) ?_
      refine zx_put hx hb hown hts hK hX hS 0 (by decide) rfl q1021 rfl rfl rfl rfl dX3_waive_29 (fun H locs hX hS => ?_)
      refine lv_aload_n hx hb dX3_waive_32 rfl (lv_at hl 0 rfl) ?_
      refine zx_get hx hb hown hts hK hX 0 (by decide) q1021 rfl rfl dX3_waive_33 ?_
      refine zm_topi (y := 2) (by simp [zu]) ?_
      refine lv_if_ne (tgt := 71) hx hb dX3_waive_36 (by decide) (fun _ => ?_) (fun c_5 => absurd c_5 (by decide))
      refine lv_aload_n hx hb dX3_waive_71 rfl (lv_at hl 0 rfl) ?_
      refine zx_get hx hb hown hts hK hX 0 (by decide) q1021 rfl rfl dX3_waive_72 ?_
      refine zm_topi (y := 2) (by simp [zu]) ?_
      refine lv_if_ne (tgt := 85) hx hb dX3_waive_75 (by decide) (fun _ => ?_) (fun c_6 => absurd c_6 (by decide))
      have e2 : zu X 0 0 2 = m_waive X (nI p) km := by first | (simp [m_waive, mHd_w, mIn_w, mWs_w, mIs_w, mN_w, mK_w, mBo_w0, zu_zu, hcp, c_2, c_4]; done) | (simp [m_waive, mHd_w, mIn_w, mWs_w, mIs_w, mN_w, mK_w, mBo_w0, zu_zu, hcp, c_2, c_4, zin]; done)
      rw [e2] at hX
      exact ze_v hx hb hr hlocks hS dX3_waive_85 (Nat.le_refl _) (Nat.le_refl _) () trivial hX
    · refine lv_iconst (v := 0) hx hb dX3_waive_24 (by decide) ?_
      refine lv_goto (tgt := 29) hx hb dX3_waive_25 (by decide) ?_
      refine zx_put hx hb hown hts hK hX hS 0 (by decide) rfl q1021 rfl rfl rfl rfl dX3_waive_29 (fun H locs hX hS => ?_)
      refine lv_aload_n hx hb dX3_waive_32 rfl (lv_at hl 0 rfl) ?_
      refine zx_get hx hb hown hts hK hX 0 (by decide) q1021 rfl rfl dX3_waive_33 ?_
      refine zm_topi (y := 0) (by simp [zu]) ?_
      refine lv_if_ne (tgt := 71) hx hb dX3_waive_36 (by decide) (fun c_7 => absurd (by decide) c_7) (fun _ => ?_)
      refine lv_aload_n hx hb dX3_waive_39 rfl (lv_at hl 0 rfl) ?_
      refine lv_aload_n hx hb dX3_waive_40 rfl (lv_at hl 0 rfl) ?_
      refine zx_get hx hb hown hts hK hX 21 (by decide) q1042 rfl rfl dX3_waive_41 ?_
      refine lv_aload_n hx hb dX3_waive_44 rfl (lv_at hl 0 rfl) ?_
      refine zx_get hx hb hown hts hK hX 2 (by decide) q1023 rfl rfl dX3_waive_45 ?_
      refine lv_iload_n hx hb dX3_waive_48 rfl (lv_at hl 1 rfl) ?_
      refine zx_ld (i := p) hx hb hK hX 2 rfl rfl (n := 60) rfl (by omega) dX3_waive_49 ?_
      refine zm_topi (y := X 2 p) (by simp [zu]) ?_
      refine zm_topi (y := nI (mK X p)) ((hI.2.1 _ hp).1) ?_
      refine zx_ld (i := mK X p) hx hb hK hX 21 rfl rfl (n := 5) rfl (by omega) dX3_waive_50 ?_
      refine zm_topi (y := X 21 (mK X p)) (by simp [zu]) ?_
      refine lv_if_eq (tgt := 63) hx hb dX3_waive_51 (by decide) (fun c_8 => ?_) (fun c_8 => ?_)
      · refine lv_iconst (v := 3) hx hb dX3_waive_63 (by decide) ?_
        refine lv_goto (tgt := 68) hx hb dX3_waive_64 (by decide) ?_
        refine zx_put hx hb hown hts hK hX hS 0 (by decide) rfl q1021 rfl rfl rfl rfl dX3_waive_68 (fun H locs hX hS => ?_)
        rw [zu_zu] at hX
        refine lv_aload_n hx hb dX3_waive_71 rfl (lv_at hl 0 rfl) ?_
        refine zx_get hx hb hown hts hK hX 0 (by decide) q1021 rfl rfl dX3_waive_72 ?_
        refine zm_topi (y := 3) (by simp [zu]) ?_
        refine lv_if_ne (tgt := 85) hx hb dX3_waive_75 (by decide) (fun _ => ?_) (fun c_9 => absurd c_9 (by decide))
        have e2 : zu X 0 0 3 = m_waive X (nI p) km := by first | (simp [m_waive, mHd_w, mIn_w, mWs_w, mIs_w, mN_w, mK_w, mBo_w0, zu_zu, hcp, c_2, c_4, c_8]; done) | (simp [m_waive, mHd_w, mIn_w, mWs_w, mIs_w, mN_w, mK_w, mBo_w0, zu_zu, hcp, c_2, c_4, c_8, zin]; done)
        rw [e2] at hX
        exact ze_v hx hb hr hlocks hS dX3_waive_85 (Nat.le_refl _) (Nat.le_refl _) () trivial hX
      · refine lv_aload_n hx hb dX3_waive_54 rfl (lv_at hl 0 rfl) ?_
        refine zx_get hx hb hown hts hK hX 8 (by decide) q1029 rfl rfl dX3_waive_55 ?_
        refine lv_iload_n hx hb dX3_waive_58 rfl (lv_at hl 1 rfl) ?_
        refine zx_ld (i := p) hx hb hK hX 8 rfl rfl (n := 60) rfl (by omega) dX3_waive_59 ?_
        refine zm_topi (y := X 8 p) (by simp [zu]) ?_
        refine lv_if_le (tgt := 67) hx hb dX3_waive_60 (by decide) (fun c_10 => ?_) (fun c_10 => ?_)
        · refine lv_iconst (v := 0) hx hb dX3_waive_67 (by decide) ?_
          refine zx_put hx hb hown hts hK hX hS 0 (by decide) rfl q1021 rfl rfl rfl rfl dX3_waive_68 (fun H locs hX hS => ?_)
          rw [zu_zu] at hX
          refine lv_aload_n hx hb dX3_waive_71 rfl (lv_at hl 0 rfl) ?_
          refine zx_get hx hb hown hts hK hX 0 (by decide) q1021 rfl rfl dX3_waive_72 ?_
          refine zm_topi (y := 0) (by simp [zu]) ?_
          refine lv_if_ne (tgt := 85) hx hb dX3_waive_75 (by decide) (fun c_11 => absurd (by decide) c_11) (fun _ => ?_)
          refine lv_aload_n hx hb dX3_waive_78 rfl (lv_at hl 0 rfl) ?_
          refine zx_get hx hb hown hts hK hX 8 (by decide) q1029 rfl rfl dX3_waive_79 ?_
          refine lv_iload_n hx hb dX3_waive_82 rfl (lv_at hl 1 rfl) ?_
          refine lv_iload_n hx hb dX3_waive_83 rfl (lv_at hl 2 rfl) ?_
          refine zx_st (i := p) hx hb hK hX hS 8 rfl rfl (n := 60) rfl (by omega) dX3_waive_84 (fun H locs hX hS => ?_)
          have e2 : zu (zu X 0 0 0) 8 p km = m_waive X (nI p) km := by first | (simp [m_waive, mHd_w, mIn_w, mWs_w, mIs_w, mN_w, mK_w, mBo_w0, zu_zu, hcp, c_2, c_4, c_8, c_10]; done) | (simp [m_waive, mHd_w, mIn_w, mWs_w, mIs_w, mN_w, mK_w, mBo_w0, zu_zu, hcp, c_2, c_4, c_8, c_10, zin]; done)
          rw [e2] at hX
          exact ze_v hx hb hr hlocks hS dX3_waive_85 (Nat.le_refl _) (Nat.le_refl _) () trivial hX
        · refine lv_iconst (v := 3) hx hb dX3_waive_63 (by decide) ?_
          refine lv_goto (tgt := 68) hx hb dX3_waive_64 (by decide) ?_
          refine zx_put hx hb hown hts hK hX hS 0 (by decide) rfl q1021 rfl rfl rfl rfl dX3_waive_68 (fun H locs hX hS => ?_)
          rw [zu_zu] at hX
          refine lv_aload_n hx hb dX3_waive_71 rfl (lv_at hl 0 rfl) ?_
          refine zx_get hx hb hown hts hK hX 0 (by decide) q1021 rfl rfl dX3_waive_72 ?_
          refine zm_topi (y := 3) (by simp [zu]) ?_
          refine lv_if_ne (tgt := 85) hx hb dX3_waive_75 (by decide) (fun _ => ?_) (fun c_12 => absurd c_12 (by decide))
          have e2 : zu X 0 0 3 = m_waive X (nI p) km := by first | (simp [m_waive, mHd_w, mIn_w, mWs_w, mIs_w, mN_w, mK_w, mBo_w0, zu_zu, hcp, c_2, c_4, c_8, c_10]; done) | (simp [m_waive, mHd_w, mIn_w, mWs_w, mIs_w, mN_w, mK_w, mBo_w0, zu_zu, hcp, c_2, c_4, c_8, c_10, zin]; done)
          rw [e2] at hX
          exact ze_v hx hb hr hlocks hS dX3_waive_85 (Nat.le_refl _) (Nat.le_refl _) () trivial hX
  · refine lv_iconst (v := 1) hx hb dX3_waive_9 (by decide) ?_
    refine lv_goto (tgt := 29) hx hb dX3_waive_10 (by decide) ?_
    refine zx_put hx hb hown hts hK hX hS 0 (by decide) rfl q1021 rfl rfl rfl rfl dX3_waive_29 (fun H locs hX hS => ?_)
    refine lv_aload_n hx hb dX3_waive_32 rfl (lv_at hl 0 rfl) ?_
    refine zx_get hx hb hown hts hK hX 0 (by decide) q1021 rfl rfl dX3_waive_33 ?_
    refine zm_topi (y := 1) (by simp [zu]) ?_
    refine lv_if_ne (tgt := 71) hx hb dX3_waive_36 (by decide) (fun _ => ?_) (fun c_13 => absurd c_13 (by decide))
    refine lv_aload_n hx hb dX3_waive_71 rfl (lv_at hl 0 rfl) ?_
    refine zx_get hx hb hown hts hK hX 0 (by decide) q1021 rfl rfl dX3_waive_72 ?_
    refine zm_topi (y := 1) (by simp [zu]) ?_
    refine lv_if_ne (tgt := 85) hx hb dX3_waive_75 (by decide) (fun _ => ?_) (fun c_14 => absurd c_14 (by decide))
    have e2 : zu X 0 0 1 = m_waive X x km := by first | (simp [m_waive, mHd_w, mIn_w, mWs_w, mIs_w, mN_w, mK_w, mBo_w0, zu_zu, c_2]; done) | (simp [m_waive, mHd_w, mIn_w, mWs_w, mIs_w, mN_w, mK_w, mBo_w0, zu_zu, c_2, zin]; done)
    rw [e2] at hX
    exact ze_v hx hb hr hlocks hS dX3_waive_85 (Nat.le_refl _) (Nat.le_refl _) () trivial hX
theorem zn_X3_flaw : zN yX3_flaw 2 := by decide +kernel
set_option maxHeartbeats 4000000 in
theorem ct_X3_flaw (l : Launch) (g : zG) (A : Nat → Prop) (mo : Nat) (ma : Nat → Nat) (X : zX) (x : Int32) (sz : Int32) (hI : MH X) : Met l yX3_flaw (ws_ yX3_flaw cX3_flaw 4 (some .int)) (zR 3 0 0) (zP [.ref mo, .int x, .int sz] g A (zMX g A mo ma X)) (va_Qi (fun rz_ (_ : Unit) => rz_ = (m_flaw X x sz).1) (fun (_ : Unit) t => zMX g A mo ma ((m_flaw X x sz).2) t.heap) A) 0 0 A := by
  refine zb_met (by decide) (Nat.le_of_ble_eq_true rfl) ?_
  intro p e s m args below meth c ls hx hb hr hml hown hts hlocks hnm hK hX ha hl
  have hown : s.vm.findClass RX3 = some m.cls := hown
  have hS : va_S A s.heap s.heap [] := va_S.rf
  have hl : lv_has ls 4 [(0, .ref mo), (1, .int x), (2, .int sz)] := hl
  have hn60 := hI.1.2
  refine lv_aload_n hx hb dX3_flaw_0 rfl (lv_at hl 0 rfl) ?_
  refine lv_aload_n hx hb dX3_flaw_1 rfl (lv_at hl 0 rfl) ?_
  refine lv_iload_n hx hb dX3_flaw_2 rfl (lv_at hl 1 rfl) ?_
  refine zc_i (zr_V (As := [.int x]) (rest := [.ref mo]) ⟨hx, hb, hml, hown, hts⟩ (ct_X3_isPart l g A mo ma X x) zn_X3_isPart (lw_V q1142 q1144 qs16 q48 q1145) rfl (by decide) (by decide) hK (fun _ h => h) hS hX (zx_recv hK hX) rfl hl.1 (Nat.le_of_ble_eq_true rfl) dX3_flaw_3 ⟨Nat.le_refl _, Nat.le_refl _⟩) hS (fun _ h => h) (fun r _ H locs r_1 hX _ _ hS => ?_)
  subst r_1
  refine zl_ifne (tgt := 13) hx hb dX3_flaw_6 (by decide) (fun c_2 => ?_) (fun c_2 => ?_)
  · obtain ⟨p, hp, rfl⟩ := mIs_t hI c_2
    have hcp : (nI p).toNatClampNeg = p := nI_clamp (by omega)
    refine lv_aload_n hx hb dX3_flaw_13 rfl (lv_at hl 0 rfl) ?_
    refine zx_get hx hb hown hts hK hX 2 (by decide) q1023 rfl rfl dX3_flaw_14 ?_
    refine lv_iload_n hx hb dX3_flaw_17 rfl (lv_at hl 1 rfl) ?_
    refine zx_ld (i := p) hx hb hK hX 2 rfl rfl (n := 60) rfl (by omega) dX3_flaw_18 ?_
    refine lv_iconst (v := 3) hx hb dX3_flaw_19 (by decide) ?_
    refine lv_icmp_lt (tgt := 33) hx hb dX3_flaw_20 (by decide) (fun c_3 => ?_) (fun c_3 => ?_)
    · refine lv_iconst (v := 2) hx hb dX3_flaw_33 (by decide) ?_
      refine lv_goto (tgt := 38) hx hb dX3_flaw_34 (by decide) ?_
      refine zx_put hx hb hown hts hK hX hS 0 (by decide) rfl q1021 rfl rfl rfl rfl dX3_flaw_38 (fun H locs hX hS => ?_)
      refine lv_aload_n hx hb dX3_flaw_41 rfl (lv_at hl 0 rfl) ?_
      refine zx_get hx hb hown hts hK hX 0 (by decide) q1021 rfl rfl dX3_flaw_42 ?_
      refine zm_topi (y := 2) (by simp [zu]) ?_
      refine lv_if_le (tgt := 50) hx hb dX3_flaw_45 (by decide) (fun c_4 => absurd c_4 (by decide)) (fun _ => ?_)
      refine lv_iconst (v := 0) hx hb dX3_flaw_48 (by decide) ?_
      have e1 : (0 : Int32) = (m_flaw X (nI p) sz).1 := by first | (simp [m_flaw, mHd_w, mIn_w, mWs_w, mIs_w, mN_w, mK_w, mBo_w0, zu_zu, hcp, c_2, c_3]; done) | (simp [m_flaw, mHd_w, mIn_w, mWs_w, mIs_w, mN_w, mK_w, mBo_w0, zu_zu, hcp, c_2, c_3, zin]; done)
      have e2 : zu X 0 0 2 = (m_flaw X (nI p) sz).2 := by first | (simp [m_flaw, mHd_w, mIn_w, mWs_w, mIs_w, mN_w, mK_w, mBo_w0, zu_zu, hcp, c_2, c_3]; done) | (simp [m_flaw, mHd_w, mIn_w, mWs_w, mIs_w, mN_w, mK_w, mBo_w0, zu_zu, hcp, c_2, c_3, zin]; done)
      rw [e2] at hX
      exact ze_i hx hb hr hlocks hS dX3_flaw_49 (Nat.le_refl _) (Nat.le_refl _) () e1 hX
    · refine lv_iload_n hx hb dX3_flaw_23 rfl (lv_at hl 2 rfl) ?_
      refine lv_iconst (v := 1) hx hb dX3_flaw_24 (by decide) ?_
      refine lv_bipush (v := 99) hx hb dX3_flaw_25 (by decide) ?_
      refine zc_i (zr_S (As := [.int sz, .int 1, .int 99]) (rest := [.ref mo]) ⟨hx, hb, hml, hown, hts⟩ (ct_X3_in l g A (zMX g A mo ma X) sz 1 99) zn_X3_in (lw_S q1130 q1131 q48 q1132) (by decide) (by decide) hK (fun _ h => h) hS hX rfl hl.1 (Nat.le_of_ble_eq_true rfl) dX3_flaw_27 ⟨Nat.le_refl _, Nat.le_refl _⟩) hS (fun _ h => h) (fun r _ H locs r_5 hX _ _ hS => ?_)
      subst r_5
      refine zl_ifne (tgt := 37) hx hb dX3_flaw_30 (by decide) (fun c_6 => ?_) (fun c_6 => ?_)
      · refine lv_iconst (v := 0) hx hb dX3_flaw_37 (by decide) ?_
        refine zx_put hx hb hown hts hK hX hS 0 (by decide) rfl q1021 rfl rfl rfl rfl dX3_flaw_38 (fun H locs hX hS => ?_)
        refine lv_aload_n hx hb dX3_flaw_41 rfl (lv_at hl 0 rfl) ?_
        refine zx_get hx hb hown hts hK hX 0 (by decide) q1021 rfl rfl dX3_flaw_42 ?_
        refine zm_topi (y := 0) (by simp [zu]) ?_
        refine lv_if_le (tgt := 50) hx hb dX3_flaw_45 (by decide) (fun _ => ?_) (fun c_7 => absurd (by decide) c_7)
        refine lv_aload_n hx hb dX3_flaw_50 rfl (lv_at hl 0 rfl) ?_
        refine zx_get hx hb hown hts hK hX 18 (by decide) q1039 rfl rfl dX3_flaw_51 ?_
        refine lv_iload_n hx hb dX3_flaw_54 rfl (lv_at hl 1 rfl) ?_
        refine zx_ld (i := p) hx hb hK hX 18 rfl rfl (n := 60) rfl (by omega) dX3_flaw_55 ?_
        refine zm_topi (y := X 18 p) (by simp [zu]) ?_
        refine lv_istore_n (lv' := [(3, .int (X 18 p)), (0, .ref mo), (1, .int (nI p)), (2, .int sz)]) hx hb dX3_flaw_56 rfl hl (by decide) rfl (fun ls hl => ?_)
        refine lv_aload_n hx hb dX3_flaw_57 rfl (lv_at hl 1 rfl) ?_
        refine zx_get hx hb hown hts hK hX 18 (by decide) q1039 rfl rfl dX3_flaw_58 ?_
        refine lv_iload_n hx hb dX3_flaw_61 rfl (lv_at hl 2 rfl) ?_
        refine lv_iload_n hx hb dX3_flaw_62 rfl (lv_at hl 3 rfl) ?_
        refine zx_st (i := p) hx hb hK hX hS 18 rfl rfl (n := 60) rfl (by omega) dX3_flaw_63 (fun H locs hX hS => ?_)
        refine lv_aload_n hx hb dX3_flaw_64 rfl (lv_at hl 1 rfl) ?_
        refine zx_get hx hb hown hts hK hX 19 (by decide) q1040 rfl rfl dX3_flaw_65 ?_
        refine lv_iload_n hx hb dX3_flaw_68 rfl (lv_at hl 2 rfl) ?_
        refine lv_aload_n hx hb dX3_flaw_69 rfl (lv_at hl 1 rfl) ?_
        refine zx_get hx hb hown hts hK hX 6 (by decide) q1027 rfl rfl dX3_flaw_70 ?_
        refine lv_iload_n hx hb dX3_flaw_73 rfl (lv_at hl 2 rfl) ?_
        refine zx_ld (i := p) hx hb hK hX 6 rfl rfl (n := 60) rfl (by omega) dX3_flaw_74 ?_
        refine zm_topi (y := X 6 p) (by simp [zu]) ?_
        refine zx_st (i := p) hx hb hK hX hS 19 rfl rfl (n := 60) rfl (by omega) dX3_flaw_75 (fun H locs hX hS => ?_)
        refine lv_iload_n hx hb dX3_flaw_76 rfl (lv_at hl 0 rfl) ?_
        have e1 : (X 18 p : Int32) = (m_flaw X (nI p) sz).1 := by first | (simp [m_flaw, mHd_w, mIn_w, mWs_w, mIs_w, mN_w, mK_w, mBo_w0, zu_zu, hcp, c_2, c_3, c_6]; done) | (simp [m_flaw, mHd_w, mIn_w, mWs_w, mIs_w, mN_w, mK_w, mBo_w0, zu_zu, hcp, c_2, c_3, c_6, zin]; done)
        have e2 : zu (zu (zu X 0 0 0) 18 p sz) 19 p (X 6 p) = (m_flaw X (nI p) sz).2 := by first | (simp [m_flaw, mHd_w, mIn_w, mWs_w, mIs_w, mN_w, mK_w, mBo_w0, zu_zu, hcp, c_2, c_3, c_6]; done) | (simp [m_flaw, mHd_w, mIn_w, mWs_w, mIs_w, mN_w, mK_w, mBo_w0, zu_zu, hcp, c_2, c_3, c_6, zin]; done)
        rw [e2] at hX
        exact ze_i hx hb hr hlocks hS dX3_flaw_77 (Nat.le_refl _) (Nat.le_refl _) () e1 hX
      · refine lv_iconst (v := 2) hx hb dX3_flaw_33 (by decide) ?_
        refine lv_goto (tgt := 38) hx hb dX3_flaw_34 (by decide) ?_
        refine zx_put hx hb hown hts hK hX hS 0 (by decide) rfl q1021 rfl rfl rfl rfl dX3_flaw_38 (fun H locs hX hS => ?_)
        refine lv_aload_n hx hb dX3_flaw_41 rfl (lv_at hl 0 rfl) ?_
        refine zx_get hx hb hown hts hK hX 0 (by decide) q1021 rfl rfl dX3_flaw_42 ?_
        refine zm_topi (y := 2) (by simp [zu]) ?_
        refine lv_if_le (tgt := 50) hx hb dX3_flaw_45 (by decide) (fun c_8 => absurd c_8 (by decide)) (fun _ => ?_)
        refine lv_iconst (v := 0) hx hb dX3_flaw_48 (by decide) ?_
        have e1 : (0 : Int32) = (m_flaw X (nI p) sz).1 := by first | (simp [m_flaw, mHd_w, mIn_w, mWs_w, mIs_w, mN_w, mK_w, mBo_w0, zu_zu, hcp, c_2, c_3, c_6]; done) | (simp [m_flaw, mHd_w, mIn_w, mWs_w, mIs_w, mN_w, mK_w, mBo_w0, zu_zu, hcp, c_2, c_3, c_6, zin]; done)
        have e2 : zu X 0 0 2 = (m_flaw X (nI p) sz).2 := by first | (simp [m_flaw, mHd_w, mIn_w, mWs_w, mIs_w, mN_w, mK_w, mBo_w0, zu_zu, hcp, c_2, c_3, c_6]; done) | (simp [m_flaw, mHd_w, mIn_w, mWs_w, mIs_w, mN_w, mK_w, mBo_w0, zu_zu, hcp, c_2, c_3, c_6, zin]; done)
        rw [e2] at hX
        exact ze_i hx hb hr hlocks hS dX3_flaw_49 (Nat.le_refl _) (Nat.le_refl _) () e1 hX
  · refine lv_iconst (v := 1) hx hb dX3_flaw_9 (by decide) ?_
    refine lv_goto (tgt := 38) hx hb dX3_flaw_10 (by decide) ?_
    refine zx_put hx hb hown hts hK hX hS 0 (by decide) rfl q1021 rfl rfl rfl rfl dX3_flaw_38 (fun H locs hX hS => ?_)
    refine lv_aload_n hx hb dX3_flaw_41 rfl (lv_at hl 0 rfl) ?_
    refine zx_get hx hb hown hts hK hX 0 (by decide) q1021 rfl rfl dX3_flaw_42 ?_
    refine zm_topi (y := 1) (by simp [zu]) ?_
    refine lv_if_le (tgt := 50) hx hb dX3_flaw_45 (by decide) (fun c_9 => absurd c_9 (by decide)) (fun _ => ?_)
    refine lv_iconst (v := 0) hx hb dX3_flaw_48 (by decide) ?_
    have e1 : (0 : Int32) = (m_flaw X x sz).1 := by first | (simp [m_flaw, mHd_w, mIn_w, mWs_w, mIs_w, mN_w, mK_w, mBo_w0, zu_zu, c_2]; done) | (simp [m_flaw, mHd_w, mIn_w, mWs_w, mIs_w, mN_w, mK_w, mBo_w0, zu_zu, c_2, zin]; done)
    have e2 : zu X 0 0 1 = (m_flaw X x sz).2 := by first | (simp [m_flaw, mHd_w, mIn_w, mWs_w, mIs_w, mN_w, mK_w, mBo_w0, zu_zu, c_2]; done) | (simp [m_flaw, mHd_w, mIn_w, mWs_w, mIs_w, mN_w, mK_w, mBo_w0, zu_zu, c_2, zin]; done)
    rw [e2] at hX
    exact ze_i hx hb hr hlocks hS dX3_flaw_49 (Nat.le_refl _) (Nat.le_refl _) () e1 hX
theorem zn_X3_holds : zN yX3_holds 1 := by decide +kernel
set_option maxHeartbeats 4000000 in
theorem ct_X3_holds (l : Launch) (g : zG) (A : Nat → Prop) (mo : Nat) (ma : Nat → Nat) (X : zX) (q : Nat) (hI : MH X) (hq : q < mN X) : Met l yX3_holds (ws_ yX3_holds cX3_holds 2 none) (zR 3 0 0) (zP [.ref mo, .int (nI q)] g A (zMX g A mo ma X)) (va_Qv (fun (_ : Unit) => True) (fun (_ : Unit) t => zMX g A mo ma (m_holds X q) t.heap) A) 0 0 A := by
  refine zb_met (by decide) (Nat.le_of_ble_eq_true rfl) ?_
  intro p e s m args below meth c ls hx hb hr hml hown hts hlocks hnm hK hX ha hl
  have hown : s.vm.findClass RX3 = some m.cls := hown
  have hS : va_S A s.heap s.heap [] := va_S.rf
  have hl : lv_has ls 2 [(0, .ref mo), (1, .int (nI q))] := hl
  have hn60 := hI.1.2
  refine lv_aload_n hx hb dX3_holds_0 rfl (lv_at hl 0 rfl) ?_
  refine zx_get hx hb hown hts hK hX 9 (by decide) q1030 rfl rfl dX3_holds_1 ?_
  refine lv_iload_n hx hb dX3_holds_4 rfl (lv_at hl 1 rfl) ?_
  refine lv_iconst (v := 1) hx hb dX3_holds_5 (by decide) ?_
  refine zx_stz (i := q) hx hb hK hX hS 9 rfl rfl (n := 60) rfl (by omega) (Or.inr rfl) dX3_holds_6 (fun H locs hX hS => ?_)
  refine lv_aload_n hx hb dX3_holds_7 rfl (lv_at hl 0 rfl) ?_
  refine lv_iload_n hx hb dX3_holds_8 rfl (lv_at hl 1 rfl) ?_
  refine zc_v (zr_V (As := [.int (nI q)]) (rest := []) ⟨hx, hb, hml, hown, hts⟩ (ct_X3_ends l g A mo ma (zu X 9 q 1) q (hI.w 9 q 1 (by decide) (by decide) (by decide)) (by have hz_ := show q < mN X from (by assumption); simpa [mN_w, m_moves, m_ends, mN_goes, mN_hl, mN_rc] using hz_)) zn_X3_ends (lw_V q1165 q1167 qs21 q48 q1168) rfl (by decide) (by decide) hK (fun _ h => h) hS hX (zx_recv hK hX) rfl hl.1 (Nat.le_of_ble_eq_true rfl) dX3_holds_9 ⟨Nat.le_refl _, Nat.le_refl _⟩) hS (fun _ h => h) (fun _ H locs _ hX _ _ hS => ?_)
  have e2 : m_ends (zu X 9 q 1) q = m_holds X q := by first | rfl | (simp [])
  rw [e2] at hX
  exact ze_v hx hb hr hlocks hS dX3_holds_12 (Nat.le_refl _) (Nat.le_refl _) () trivial hX
theorem zn_X3_look : zN yX3_look 2 := by decide +kernel
set_option maxHeartbeats 4000000 in
theorem ct_X3_look (l : Launch) (g : zG) (A : Nat → Prop) (mo : Nat) (ma : Nat → Nat) (X : zX) (x : Int32) (b : Bool) (hI : MH X) (hz12 : ∀ p, X 12 p = 0 ∨ X 12 p = 1) (hz10 : ∀ p, X 10 p = 0 ∨ X 10 p = 1) : Met l yX3_look (ws_ yX3_look cX3_look 3 (some .int)) (zR 4 0 0) (zP [.ref mo, .int x, .int (zb b)] g A (zMX g A mo ma X)) (va_Qi (fun rz_ (_ : Unit) => rz_ = (m_look X x b).1) (fun (_ : Unit) t => zMX g A mo ma ((m_look X x b).2) t.heap) A) 0 0 A := by
  refine zb_met (by decide) (Nat.le_of_ble_eq_true rfl) ?_
  intro p e s m args below meth c ls hx hb hr hml hown hts hlocks hnm hK hX ha hl
  have hown : s.vm.findClass RX3 = some m.cls := hown
  have hS : va_S A s.heap s.heap [] := va_S.rf
  have hl : lv_has ls 3 [(0, .ref mo), (1, .int x), (2, .int (zb b))] := hl
  have hn60 := hI.1.2
  refine lv_aload_n hx hb dX3_look_0 rfl (lv_at hl 0 rfl) ?_
  refine lv_aload_n hx hb dX3_look_1 rfl (lv_at hl 0 rfl) ?_
  refine lv_iload_n hx hb dX3_look_2 rfl (lv_at hl 1 rfl) ?_
  refine zc_i (zr_V (As := [.int x]) (rest := [.ref mo]) ⟨hx, hb, hml, hown, hts⟩ (ct_X3_isPart l g A mo ma X x) zn_X3_isPart (lw_V q1142 q1144 qs16 q48 q1145) rfl (by decide) (by decide) hK (fun _ h => h) hS hX (zx_recv hK hX) rfl hl.1 (Nat.le_of_ble_eq_true rfl) dX3_look_3 ⟨Nat.le_refl _, Nat.le_refl _⟩) hS (fun _ h => h) (fun r _ H locs r_1 hX _ _ hS => ?_)
  subst r_1
  refine zl_ifne (tgt := 13) hx hb dX3_look_6 (by decide) (fun c_2 => ?_) (fun c_2 => ?_)
  · obtain ⟨p, hp, rfl⟩ := mIs_t hI c_2
    have hcp : (nI p).toNatClampNeg = p := nI_clamp (by omega)
    refine lv_aload_n hx hb dX3_look_13 rfl (lv_at hl 0 rfl) ?_
    refine zx_get hx hb hown hts hK hX 5 (by decide) q1026 rfl rfl dX3_look_14 ?_
    refine lv_iload_n hx hb dX3_look_17 rfl (lv_at hl 1 rfl) ?_
    refine zx_ld (i := p) hx hb hK hX 5 rfl rfl (n := 60) rfl (by omega) dX3_look_18 ?_
    refine lv_bipush (v := (-2)) hx hb dX3_look_19 (by decide) ?_
    refine lv_icmp_eq (tgt := 46) hx hb dX3_look_21 (by decide) (fun c_3 => ?_) (fun c_3 => ?_)
    · refine lv_iconst (v := 2) hx hb dX3_look_46 (by decide) ?_
      refine lv_goto (tgt := 51) hx hb dX3_look_47 (by decide) ?_
      refine zx_put hx hb hown hts hK hX hS 0 (by decide) rfl q1021 rfl rfl rfl rfl dX3_look_51 (fun H locs hX hS => ?_)
      refine lv_aload_n hx hb dX3_look_54 rfl (lv_at hl 0 rfl) ?_
      refine zx_get hx hb hown hts hK hX 0 (by decide) q1021 rfl rfl dX3_look_55 ?_
      refine zm_topi (y := 2) (by simp [zu]) ?_
      refine lv_if_le (tgt := 63) hx hb dX3_look_58 (by decide) (fun c_4 => absurd c_4 (by decide)) (fun _ => ?_)
      refine lv_iconst (v := 0) hx hb dX3_look_61 (by decide) ?_
      have e1 : (0 : Int32) = (m_look X (nI p) b).1 := by first | (simp [m_look, mHd_w, mIn_w, mWs_w, mIs_w, mN_w, mK_w, mBo_w0, zu_zu, m_holds, m_ends, zu, hcp, c_2, c_3]; done) | (simp [m_look, mHd_w, mIn_w, mWs_w, mIs_w, mN_w, mK_w, mBo_w0, zu_zu, m_holds, m_ends, zu, hcp, c_2, c_3, zin]; done)
      have e2 : zu X 0 0 2 = (m_look X (nI p) b).2 := by first | (simp [m_look, mHd_w, mIn_w, mWs_w, mIs_w, mN_w, mK_w, mBo_w0, zu_zu, m_holds, m_ends, zu, hcp, c_2, c_3]; done) | (simp [m_look, mHd_w, mIn_w, mWs_w, mIs_w, mN_w, mK_w, mBo_w0, zu_zu, m_holds, m_ends, zu, hcp, c_2, c_3, zin]; done)
      rw [e2] at hX
      exact ze_i hx hb hr hlocks hS dX3_look_62 (Nat.le_refl _) (Nat.le_refl _) () e1 hX
    · refine lv_aload_n hx hb dX3_look_24 rfl (lv_at hl 0 rfl) ?_
      refine lv_iload_n hx hb dX3_look_25 rfl (lv_at hl 1 rfl) ?_
      refine zc_i (zr_V (As := [.int (nI p)]) (rest := [.ref mo]) ⟨hx, hb, hml, hown, hts⟩ (ct_X3_isBound l g A mo ma X p hI hp hz12) zn_X3_isBound (lw_V q1149 q1151 qs17 q48 q1152) rfl (by decide) (by decide) hK (fun _ h => h) hS hX (zx_recv hK hX) rfl hl.1 (Nat.le_of_ble_eq_true rfl) dX3_look_26 ⟨Nat.le_refl _, Nat.le_refl _⟩) hS (fun _ h => h) (fun r _ H locs r_5 hX _ _ hS => ?_)
      subst r_5
      refine lv_if_ne (tgt := 46) hx hb dX3_look_29 (by decide) (fun c_6 => ?_) (fun c_6 => ?_)
      · refine lv_iconst (v := 2) hx hb dX3_look_46 (by decide) ?_
        refine lv_goto (tgt := 51) hx hb dX3_look_47 (by decide) ?_
        refine zx_put hx hb hown hts hK hX hS 0 (by decide) rfl q1021 rfl rfl rfl rfl dX3_look_51 (fun H locs hX hS => ?_)
        refine lv_aload_n hx hb dX3_look_54 rfl (lv_at hl 0 rfl) ?_
        refine zx_get hx hb hown hts hK hX 0 (by decide) q1021 rfl rfl dX3_look_55 ?_
        refine zm_topi (y := 2) (by simp [zu]) ?_
        refine lv_if_le (tgt := 63) hx hb dX3_look_58 (by decide) (fun c_7 => absurd c_7 (by decide)) (fun _ => ?_)
        refine lv_iconst (v := 0) hx hb dX3_look_61 (by decide) ?_
        have e1 : (0 : Int32) = (m_look X (nI p) b).1 := by first | (simp [m_look, mHd_w, mIn_w, mWs_w, mIs_w, mN_w, mK_w, mBo_w0, zu_zu, m_holds, m_ends, zu, hcp, c_2, c_3, c_6]; done) | (simp [m_look, mHd_w, mIn_w, mWs_w, mIs_w, mN_w, mK_w, mBo_w0, zu_zu, m_holds, m_ends, zu, hcp, c_2, c_3, c_6, zin]; done)
        have e2 : zu X 0 0 2 = (m_look X (nI p) b).2 := by first | (simp [m_look, mHd_w, mIn_w, mWs_w, mIs_w, mN_w, mK_w, mBo_w0, zu_zu, m_holds, m_ends, zu, hcp, c_2, c_3, c_6]; done) | (simp [m_look, mHd_w, mIn_w, mWs_w, mIs_w, mN_w, mK_w, mBo_w0, zu_zu, m_holds, m_ends, zu, hcp, c_2, c_3, c_6, zin]; done)
        rw [e2] at hX
        exact ze_i hx hb hr hlocks hS dX3_look_62 (Nat.le_refl _) (Nat.le_refl _) () e1 hX
      · refine lv_iload_n hx hb dX3_look_32 rfl (lv_at hl 2 rfl) ?_
        refine zl_ifeq (tgt := 50) hx hb dX3_look_33 (by decide) (fun c_8 => ?_) (fun c_8 => ?_)
        · refine lv_iconst (v := 0) hx hb dX3_look_50 (by decide) ?_
          refine zx_put hx hb hown hts hK hX hS 0 (by decide) rfl q1021 rfl rfl rfl rfl dX3_look_51 (fun H locs hX hS => ?_)
          refine lv_aload_n hx hb dX3_look_54 rfl (lv_at hl 0 rfl) ?_
          refine zx_get hx hb hown hts hK hX 0 (by decide) q1021 rfl rfl dX3_look_55 ?_
          refine zm_topi (y := 0) (by simp [zu]) ?_
          refine lv_if_le (tgt := 63) hx hb dX3_look_58 (by decide) (fun _ => ?_) (fun c_9 => absurd (by decide) c_9)
          refine lv_aload_n hx hb dX3_look_63 rfl (lv_at hl 0 rfl) ?_
          refine zx_get hx hb hown hts hK hX 18 (by decide) q1039 rfl rfl dX3_look_64 ?_
          refine lv_iload_n hx hb dX3_look_67 rfl (lv_at hl 1 rfl) ?_
          refine zx_ld (i := p) hx hb hK hX 18 rfl rfl (n := 60) rfl (by omega) dX3_look_68 ?_
          refine zm_topi (y := X 18 p) (by simp [zu]) ?_
          refine lv_iload_n hx hb dX3_look_69 rfl (lv_at hl 2 rfl) ?_
          refine zl_ifeq (tgt := 77) hx hb dX3_look_70 (by decide) (fun _ => ?_) (fun c_10 => by rw [c_8] at c_10; cases c_10)
          refine lv_bipush (v := 10) hx hb dX3_look_77 (by decide) ?_
          refine lv_icmp_lt (tgt := 94) hx hb dX3_look_79 (by decide) (fun c_11 => ?_) (fun c_11 => ?_)
          · refine lv_aload_n hx hb dX3_look_94 rfl (lv_at hl 0 rfl) ?_
            refine zx_get hx hb hown hts hK hX 10 (by decide) q1031 rfl rfl dX3_look_95 ?_
            refine lv_iload_n hx hb dX3_look_98 rfl (lv_at hl 1 rfl) ?_
            refine lv_aload_n hx hb dX3_look_99 rfl (lv_at hl 0 rfl) ?_
            refine zx_get hx hb hown hts hK hX 10 (by decide) q1031 rfl rfl dX3_look_100 ?_
            refine lv_iload_n hx hb dX3_look_103 rfl (lv_at hl 1 rfl) ?_
            refine zx_ldz (i := p) hx hb hK hX 10 rfl rfl (n := 60) rfl (by omega) dX3_look_104 ?_
            refine zm_topi (y := X 10 p) (by simp [zu]) ?_
            refine lv_if_eq (tgt := 116) hx hb dX3_look_105 (by decide) (fun c_12 => ?_) (fun c_12 => ?_)
            · refine lv_iconst (v := 0) hx hb dX3_look_116 (by decide) ?_
              refine zx_stz (i := p) hx hb hK hX hS 10 rfl rfl (n := 60) rfl (by omega) (Or.inl rfl) dX3_look_117 (fun H locs hX hS => ?_)
              refine lv_iconst (v := 0) hx hb dX3_look_118 (by decide) ?_
              have e1 : (0 : Int32) = (m_look X (nI p) b).1 := by first | (simp [m_look, mHd_w, mIn_w, mWs_w, mIs_w, mN_w, mK_w, mBo_w0, zu_zu, m_holds, m_ends, zu, hcp, c_2, c_3, c_6, c_8, c_11, c_12]; done) | (simp [m_look, mHd_w, mIn_w, mWs_w, mIs_w, mN_w, mK_w, mBo_w0, zu_zu, m_holds, m_ends, zu, hcp, c_2, c_3, c_6, c_8, c_11, c_12, zin]; done)
              have e2 : zu (zu X 0 0 0) 10 p 0 = (m_look X (nI p) b).2 := by first | (simp [m_look, mHd_w, mIn_w, mWs_w, mIs_w, mN_w, mK_w, mBo_w0, zu_zu, m_holds, m_ends, zu, hcp, c_2, c_3, c_6, c_8, c_11, c_12]; done) | (simp [m_look, mHd_w, mIn_w, mWs_w, mIs_w, mN_w, mK_w, mBo_w0, zu_zu, m_holds, m_ends, zu, hcp, c_2, c_3, c_6, c_8, c_11, c_12, zin]; done)
              rw [e2] at hX
              exact ze_i hx hb hr hlocks hS dX3_look_119 (Nat.le_refl _) (Nat.le_refl _) () e1 hX
            · refine lv_iload_n hx hb dX3_look_108 rfl (lv_at hl 2 rfl) ?_
              refine zl_ifne (tgt := 116) hx hb dX3_look_109 (by decide) (fun c_13 => by rw [c_8] at c_13; cases c_13) (fun _ => ?_)
              refine lv_iconst (v := 1) hx hb dX3_look_112 (by decide) ?_
              refine lv_goto (tgt := 117) hx hb dX3_look_113 (by decide) ?_
              refine zx_stz (i := p) hx hb hK hX hS 10 rfl rfl (n := 60) rfl (by omega) (Or.inr rfl) dX3_look_117 (fun H locs hX hS => ?_)
              refine lv_iconst (v := 0) hx hb dX3_look_118 (by decide) ?_
              have e1 : (0 : Int32) = (m_look X (nI p) b).1 := by first | (simp [m_look, mHd_w, mIn_w, mWs_w, mIs_w, mN_w, mK_w, mBo_w0, zu_zu, m_holds, m_ends, zu, hcp, c_2, c_3, c_6, c_8, c_11, c_12]; done) | (simp [m_look, mHd_w, mIn_w, mWs_w, mIs_w, mN_w, mK_w, mBo_w0, zu_zu, m_holds, m_ends, zu, hcp, c_2, c_3, c_6, c_8, c_11, c_12, zin]; done)
              have e2 : zu (zu X 0 0 0) 10 p 1 = (m_look X (nI p) b).2 := by first | (simp [m_look, mHd_w, mIn_w, mWs_w, mIs_w, mN_w, mK_w, mBo_w0, zu_zu, m_holds, m_ends, zu, hcp, c_2, c_3, c_6, c_8, c_11, c_12]; done) | (simp [m_look, mHd_w, mIn_w, mWs_w, mIs_w, mN_w, mK_w, mBo_w0, zu_zu, m_holds, m_ends, zu, hcp, c_2, c_3, c_6, c_8, c_11, c_12, zin]; done)
              rw [e2] at hX
              exact ze_i hx hb hr hlocks hS dX3_look_119 (Nat.le_refl _) (Nat.le_refl _) () e1 hX
          · refine lv_aload_n hx hb dX3_look_82 rfl (lv_at hl 0 rfl) ?_
            refine lv_iload_n hx hb dX3_look_83 rfl (lv_at hl 1 rfl) ?_
            refine zc_v (zr_V (As := [.int (nI p)]) (rest := []) ⟨hx, hb, hml, hown, hts⟩ (ct_X3_holds l g A mo ma (zu X 0 0 0) p (hI.w 0 0 0 (by decide) (by decide) (by decide)) (by have hz_ := show p < mN X from hp; simpa [mN_w, m_moves, m_ends, mN_goes, mN_hl, mN_rc] using hz_)) zn_X3_holds (lw_V q1232 q1234 qs28 q48 q1235) rfl (by decide) (by decide) hK (fun _ h => h) hS hX (zx_recv hK hX) rfl hl.1 (Nat.le_of_ble_eq_true rfl) dX3_look_84 ⟨Nat.le_refl _, Nat.le_refl _⟩) hS (fun _ h => h) (fun _ H locs _ hX _ _ hS => ?_)
            refine lv_aload_n hx hb dX3_look_87 rfl (lv_at hl 0 rfl) ?_
            refine zx_get hx hb hown hts hK hX 18 (by decide) q1039 rfl rfl dX3_look_88 ?_
            refine lv_iload_n hx hb dX3_look_91 rfl (lv_at hl 1 rfl) ?_
            refine zx_ld (i := p) hx hb hK hX 18 rfl rfl (n := 60) rfl (by omega) dX3_look_92 ?_
            have e1 : ((m_holds (zu X 0 0 0) p) 18 p : Int32) = (m_look X (nI p) b).1 := by first | (simp [m_look, mHd_w, mIn_w, mWs_w, mIs_w, mN_w, mK_w, mBo_w0, zu_zu, m_holds, m_ends, zu, hcp, c_2, c_3, c_6, c_8, c_11]; done) | (simp [m_look, mHd_w, mIn_w, mWs_w, mIs_w, mN_w, mK_w, mBo_w0, zu_zu, m_holds, m_ends, zu, hcp, c_2, c_3, c_6, c_8, c_11, zin]; done)
            have e2 : m_holds (zu X 0 0 0) p = (m_look X (nI p) b).2 := by first | (simp [m_look, mHd_w, mIn_w, mWs_w, mIs_w, mN_w, mK_w, mBo_w0, zu_zu, m_holds, m_ends, zu, hcp, c_2, c_3, c_6, c_8, c_11]; done) | (simp [m_look, mHd_w, mIn_w, mWs_w, mIs_w, mN_w, mK_w, mBo_w0, zu_zu, m_holds, m_ends, zu, hcp, c_2, c_3, c_6, c_8, c_11, zin]; done)
            rw [e2] at hX
            exact ze_i hx hb hr hlocks hS dX3_look_93 (Nat.le_refl _) (Nat.le_refl _) () e1 hX
        · refine lv_aload_n hx hb dX3_look_36 rfl (lv_at hl 0 rfl) ?_
          refine zx_get hx hb hown hts hK hX 5 (by decide) q1026 rfl rfl dX3_look_37 ?_
          refine lv_iload_n hx hb dX3_look_40 rfl (lv_at hl 1 rfl) ?_
          refine zx_ld (i := p) hx hb hK hX 5 rfl rfl (n := 60) rfl (by omega) dX3_look_41 ?_
          refine lv_iconst (v := (-1)) hx hb dX3_look_42 (by decide) ?_
          refine lv_icmp_eq (tgt := 50) hx hb dX3_look_43 (by decide) (fun c_14 => ?_) (fun c_14 => ?_)
          · refine lv_iconst (v := 0) hx hb dX3_look_50 (by decide) ?_
            refine zx_put hx hb hown hts hK hX hS 0 (by decide) rfl q1021 rfl rfl rfl rfl dX3_look_51 (fun H locs hX hS => ?_)
            refine lv_aload_n hx hb dX3_look_54 rfl (lv_at hl 0 rfl) ?_
            refine zx_get hx hb hown hts hK hX 0 (by decide) q1021 rfl rfl dX3_look_55 ?_
            refine zm_topi (y := 0) (by simp [zu]) ?_
            refine lv_if_le (tgt := 63) hx hb dX3_look_58 (by decide) (fun _ => ?_) (fun c_15 => absurd (by decide) c_15)
            refine lv_aload_n hx hb dX3_look_63 rfl (lv_at hl 0 rfl) ?_
            refine zx_get hx hb hown hts hK hX 18 (by decide) q1039 rfl rfl dX3_look_64 ?_
            refine lv_iload_n hx hb dX3_look_67 rfl (lv_at hl 1 rfl) ?_
            refine zx_ld (i := p) hx hb hK hX 18 rfl rfl (n := 60) rfl (by omega) dX3_look_68 ?_
            refine zm_topi (y := X 18 p) (by simp [zu]) ?_
            refine lv_iload_n hx hb dX3_look_69 rfl (lv_at hl 2 rfl) ?_
            refine zl_ifeq (tgt := 77) hx hb dX3_look_70 (by decide) (fun c_16 => by rw [c_8] at c_16; cases c_16) (fun _ => ?_)
            refine lv_iconst (v := 3) hx hb dX3_look_73 (by decide) ?_
            refine lv_goto (tgt := 79) hx hb dX3_look_74 (by decide) ?_
            refine lv_icmp_lt (tgt := 94) hx hb dX3_look_79 (by decide) (fun c_17 => ?_) (fun c_17 => ?_)
            · refine lv_aload_n hx hb dX3_look_94 rfl (lv_at hl 0 rfl) ?_
              refine zx_get hx hb hown hts hK hX 10 (by decide) q1031 rfl rfl dX3_look_95 ?_
              refine lv_iload_n hx hb dX3_look_98 rfl (lv_at hl 1 rfl) ?_
              refine lv_aload_n hx hb dX3_look_99 rfl (lv_at hl 0 rfl) ?_
              refine zx_get hx hb hown hts hK hX 10 (by decide) q1031 rfl rfl dX3_look_100 ?_
              refine lv_iload_n hx hb dX3_look_103 rfl (lv_at hl 1 rfl) ?_
              refine zx_ldz (i := p) hx hb hK hX 10 rfl rfl (n := 60) rfl (by omega) dX3_look_104 ?_
              refine zm_topi (y := X 10 p) (by simp [zu]) ?_
              refine lv_if_eq (tgt := 116) hx hb dX3_look_105 (by decide) (fun c_18 => ?_) (fun c_18 => ?_)
              · refine lv_iconst (v := 0) hx hb dX3_look_116 (by decide) ?_
                refine zx_stz (i := p) hx hb hK hX hS 10 rfl rfl (n := 60) rfl (by omega) (Or.inl rfl) dX3_look_117 (fun H locs hX hS => ?_)
                refine lv_iconst (v := 0) hx hb dX3_look_118 (by decide) ?_
                have e1 : (0 : Int32) = (m_look X (nI p) b).1 := by first | (simp [m_look, mHd_w, mIn_w, mWs_w, mIs_w, mN_w, mK_w, mBo_w0, zu_zu, m_holds, m_ends, zu, hcp, c_2, c_3, c_6, c_8, c_14, c_17, c_18]; done) | (simp [m_look, mHd_w, mIn_w, mWs_w, mIs_w, mN_w, mK_w, mBo_w0, zu_zu, m_holds, m_ends, zu, hcp, c_2, c_3, c_6, c_8, c_14, c_17, c_18, zin]; done)
                have e2 : zu (zu X 0 0 0) 10 p 0 = (m_look X (nI p) b).2 := by first | (simp [m_look, mHd_w, mIn_w, mWs_w, mIs_w, mN_w, mK_w, mBo_w0, zu_zu, m_holds, m_ends, zu, hcp, c_2, c_3, c_6, c_8, c_14, c_17, c_18]; done) | (simp [m_look, mHd_w, mIn_w, mWs_w, mIs_w, mN_w, mK_w, mBo_w0, zu_zu, m_holds, m_ends, zu, hcp, c_2, c_3, c_6, c_8, c_14, c_17, c_18, zin]; done)
                rw [e2] at hX
                exact ze_i hx hb hr hlocks hS dX3_look_119 (Nat.le_refl _) (Nat.le_refl _) () e1 hX
              · refine lv_iload_n hx hb dX3_look_108 rfl (lv_at hl 2 rfl) ?_
                refine zl_ifne (tgt := 116) hx hb dX3_look_109 (by decide) (fun _ => ?_) (fun c_19 => by rw [c_8] at c_19; cases c_19)
                refine lv_iconst (v := 0) hx hb dX3_look_116 (by decide) ?_
                refine zx_stz (i := p) hx hb hK hX hS 10 rfl rfl (n := 60) rfl (by omega) (Or.inl rfl) dX3_look_117 (fun H locs hX hS => ?_)
                refine lv_iconst (v := 0) hx hb dX3_look_118 (by decide) ?_
                have e1 : (0 : Int32) = (m_look X (nI p) b).1 := by first | (simp [m_look, mHd_w, mIn_w, mWs_w, mIs_w, mN_w, mK_w, mBo_w0, zu_zu, m_holds, m_ends, zu, hcp, c_2, c_3, c_6, c_8, c_14, c_17, c_18]; done) | (simp [m_look, mHd_w, mIn_w, mWs_w, mIs_w, mN_w, mK_w, mBo_w0, zu_zu, m_holds, m_ends, zu, hcp, c_2, c_3, c_6, c_8, c_14, c_17, c_18, zin]; done)
                have e2 : zu (zu X 0 0 0) 10 p 0 = (m_look X (nI p) b).2 := by first | (simp [m_look, mHd_w, mIn_w, mWs_w, mIs_w, mN_w, mK_w, mBo_w0, zu_zu, m_holds, m_ends, zu, hcp, c_2, c_3, c_6, c_8, c_14, c_17, c_18]; done) | (simp [m_look, mHd_w, mIn_w, mWs_w, mIs_w, mN_w, mK_w, mBo_w0, zu_zu, m_holds, m_ends, zu, hcp, c_2, c_3, c_6, c_8, c_14, c_17, c_18, zin]; done)
                rw [e2] at hX
                exact ze_i hx hb hr hlocks hS dX3_look_119 (Nat.le_refl _) (Nat.le_refl _) () e1 hX
            · refine lv_aload_n hx hb dX3_look_82 rfl (lv_at hl 0 rfl) ?_
              refine lv_iload_n hx hb dX3_look_83 rfl (lv_at hl 1 rfl) ?_
              refine zc_v (zr_V (As := [.int (nI p)]) (rest := []) ⟨hx, hb, hml, hown, hts⟩ (ct_X3_holds l g A mo ma (zu X 0 0 0) p (hI.w 0 0 0 (by decide) (by decide) (by decide)) (by have hz_ := show p < mN X from hp; simpa [mN_w, m_moves, m_ends, mN_goes, mN_hl, mN_rc] using hz_)) zn_X3_holds (lw_V q1232 q1234 qs28 q48 q1235) rfl (by decide) (by decide) hK (fun _ h => h) hS hX (zx_recv hK hX) rfl hl.1 (Nat.le_of_ble_eq_true rfl) dX3_look_84 ⟨Nat.le_refl _, Nat.le_refl _⟩) hS (fun _ h => h) (fun _ H locs _ hX _ _ hS => ?_)
              refine lv_aload_n hx hb dX3_look_87 rfl (lv_at hl 0 rfl) ?_
              refine zx_get hx hb hown hts hK hX 18 (by decide) q1039 rfl rfl dX3_look_88 ?_
              refine lv_iload_n hx hb dX3_look_91 rfl (lv_at hl 1 rfl) ?_
              refine zx_ld (i := p) hx hb hK hX 18 rfl rfl (n := 60) rfl (by omega) dX3_look_92 ?_
              have e1 : ((m_holds (zu X 0 0 0) p) 18 p : Int32) = (m_look X (nI p) b).1 := by first | (simp [m_look, mHd_w, mIn_w, mWs_w, mIs_w, mN_w, mK_w, mBo_w0, zu_zu, m_holds, m_ends, zu, hcp, c_2, c_3, c_6, c_8, c_14, c_17]; done) | (simp [m_look, mHd_w, mIn_w, mWs_w, mIs_w, mN_w, mK_w, mBo_w0, zu_zu, m_holds, m_ends, zu, hcp, c_2, c_3, c_6, c_8, c_14, c_17, zin]; done)
              have e2 : m_holds (zu X 0 0 0) p = (m_look X (nI p) b).2 := by first | (simp [m_look, mHd_w, mIn_w, mWs_w, mIs_w, mN_w, mK_w, mBo_w0, zu_zu, m_holds, m_ends, zu, hcp, c_2, c_3, c_6, c_8, c_14, c_17]; done) | (simp [m_look, mHd_w, mIn_w, mWs_w, mIs_w, mN_w, mK_w, mBo_w0, zu_zu, m_holds, m_ends, zu, hcp, c_2, c_3, c_6, c_8, c_14, c_17, zin]; done)
              rw [e2] at hX
              exact ze_i hx hb hr hlocks hS dX3_look_93 (Nat.le_refl _) (Nat.le_refl _) () e1 hX
          · refine lv_iconst (v := 2) hx hb dX3_look_46 (by decide) ?_
            refine lv_goto (tgt := 51) hx hb dX3_look_47 (by decide) ?_
            refine zx_put hx hb hown hts hK hX hS 0 (by decide) rfl q1021 rfl rfl rfl rfl dX3_look_51 (fun H locs hX hS => ?_)
            refine lv_aload_n hx hb dX3_look_54 rfl (lv_at hl 0 rfl) ?_
            refine zx_get hx hb hown hts hK hX 0 (by decide) q1021 rfl rfl dX3_look_55 ?_
            refine zm_topi (y := 2) (by simp [zu]) ?_
            refine lv_if_le (tgt := 63) hx hb dX3_look_58 (by decide) (fun c_20 => absurd c_20 (by decide)) (fun _ => ?_)
            refine lv_iconst (v := 0) hx hb dX3_look_61 (by decide) ?_
            have e1 : (0 : Int32) = (m_look X (nI p) b).1 := by first | (simp [m_look, mHd_w, mIn_w, mWs_w, mIs_w, mN_w, mK_w, mBo_w0, zu_zu, m_holds, m_ends, zu, hcp, c_2, c_3, c_6, c_8, c_14]; done) | (simp [m_look, mHd_w, mIn_w, mWs_w, mIs_w, mN_w, mK_w, mBo_w0, zu_zu, m_holds, m_ends, zu, hcp, c_2, c_3, c_6, c_8, c_14, zin]; done)
            have e2 : zu X 0 0 2 = (m_look X (nI p) b).2 := by first | (simp [m_look, mHd_w, mIn_w, mWs_w, mIs_w, mN_w, mK_w, mBo_w0, zu_zu, m_holds, m_ends, zu, hcp, c_2, c_3, c_6, c_8, c_14]; done) | (simp [m_look, mHd_w, mIn_w, mWs_w, mIs_w, mN_w, mK_w, mBo_w0, zu_zu, m_holds, m_ends, zu, hcp, c_2, c_3, c_6, c_8, c_14, zin]; done)
            rw [e2] at hX
            exact ze_i hx hb hr hlocks hS dX3_look_62 (Nat.le_refl _) (Nat.le_refl _) () e1 hX
  · refine lv_iconst (v := 1) hx hb dX3_look_9 (by decide) ?_
    refine lv_goto (tgt := 51) hx hb dX3_look_10 (by decide) ?_
    refine zx_put hx hb hown hts hK hX hS 0 (by decide) rfl q1021 rfl rfl rfl rfl dX3_look_51 (fun H locs hX hS => ?_)
    refine lv_aload_n hx hb dX3_look_54 rfl (lv_at hl 0 rfl) ?_
    refine zx_get hx hb hown hts hK hX 0 (by decide) q1021 rfl rfl dX3_look_55 ?_
    refine zm_topi (y := 1) (by simp [zu]) ?_
    refine lv_if_le (tgt := 63) hx hb dX3_look_58 (by decide) (fun c_21 => absurd c_21 (by decide)) (fun _ => ?_)
    refine lv_iconst (v := 0) hx hb dX3_look_61 (by decide) ?_
    have e1 : (0 : Int32) = (m_look X x b).1 := by first | (simp [m_look, mHd_w, mIn_w, mWs_w, mIs_w, mN_w, mK_w, mBo_w0, zu_zu, m_holds, m_ends, zu, c_2]; done) | (simp [m_look, mHd_w, mIn_w, mWs_w, mIs_w, mN_w, mK_w, mBo_w0, zu_zu, m_holds, m_ends, zu, c_2, zin]; done)
    have e2 : zu X 0 0 1 = (m_look X x b).2 := by first | (simp [m_look, mHd_w, mIn_w, mWs_w, mIs_w, mN_w, mK_w, mBo_w0, zu_zu, m_holds, m_ends, zu, c_2]; done) | (simp [m_look, mHd_w, mIn_w, mWs_w, mIs_w, mN_w, mK_w, mBo_w0, zu_zu, m_holds, m_ends, zu, c_2, zin]; done)
    rw [e2] at hX
    exact ze_i hx hb hr hlocks hS dX3_look_62 (Nat.le_refl _) (Nat.le_refl _) () e1 hX
theorem zn_X3_clear : zN yX3_clear 1 := by decide +kernel
set_option maxHeartbeats 4000000 in
theorem ct_X3_clear (l : Launch) (g : zG) (A : Nat → Prop) (mo : Nat) (ma : Nat → Nat) (X : zX) (x : Int32) (hI : MH X) (hz12 : ∀ p, X 12 p = 0 ∨ X 12 p = 1) : Met l yX3_clear (ws_ yX3_clear cX3_clear 3 (some .int)) (zR 3 0 0) (zP [.ref mo, .int x] g A (zMX g A mo ma X)) (va_Qi (fun rz_ (_ : Unit) => rz_ = (m_clear X x).1) (fun (_ : Unit) t => zMX g A mo ma ((m_clear X x).2) t.heap) A) 0 0 A := by
  refine zb_met (by decide) (Nat.le_of_ble_eq_true rfl) ?_
  intro p e s m args below meth c ls hx hb hr hml hown hts hlocks hnm hK hX ha hl
  have hown : s.vm.findClass RX3 = some m.cls := hown
  have hS : va_S A s.heap s.heap [] := va_S.rf
  have hl : lv_has ls 3 [(0, .ref mo), (1, .int x)] := hl
  have hn60 := hI.1.2
  refine lv_aload_n hx hb dX3_clear_0 rfl (lv_at hl 0 rfl) ?_
  refine lv_aload_n hx hb dX3_clear_1 rfl (lv_at hl 0 rfl) ?_
  refine lv_iload_n hx hb dX3_clear_2 rfl (lv_at hl 1 rfl) ?_
  refine zc_i (zr_V (As := [.int x]) (rest := [.ref mo]) ⟨hx, hb, hml, hown, hts⟩ (ct_X3_isPart l g A mo ma X x) zn_X3_isPart (lw_V q1142 q1144 qs16 q48 q1145) rfl (by decide) (by decide) hK (fun _ h => h) hS hX (zx_recv hK hX) rfl hl.1 (Nat.le_of_ble_eq_true rfl) dX3_clear_3 ⟨Nat.le_refl _, Nat.le_refl _⟩) hS (fun _ h => h) (fun r _ H locs r_1 hX _ _ hS => ?_)
  subst r_1
  refine zl_ifne (tgt := 13) hx hb dX3_clear_6 (by decide) (fun c_2 => ?_) (fun c_2 => ?_)
  · obtain ⟨p, hp, rfl⟩ := mIs_t hI c_2
    have hcp : (nI p).toNatClampNeg = p := nI_clamp (by omega)
    refine lv_aload_n hx hb dX3_clear_13 rfl (lv_at hl 0 rfl) ?_
    refine zx_get hx hb hown hts hK hX 9 (by decide) q1030 rfl rfl dX3_clear_14 ?_
    refine lv_iload_n hx hb dX3_clear_17 rfl (lv_at hl 1 rfl) ?_
    refine zx_ldz (i := p) hx hb hK hX 9 rfl rfl (n := 60) rfl (by omega) dX3_clear_18 ?_
    refine lv_if_eq (tgt := 30) hx hb dX3_clear_19 (by decide) (fun c_3 => ?_) (fun c_3 => ?_)
    · refine lv_iconst (v := 2) hx hb dX3_clear_30 (by decide) ?_
      refine lv_goto (tgt := 35) hx hb dX3_clear_31 (by decide) ?_
      refine zx_put hx hb hown hts hK hX hS 0 (by decide) rfl q1021 rfl rfl rfl rfl dX3_clear_35 (fun H locs hX hS => ?_)
      refine lv_aload_n hx hb dX3_clear_38 rfl (lv_at hl 0 rfl) ?_
      refine zx_get hx hb hown hts hK hX 0 (by decide) q1021 rfl rfl dX3_clear_39 ?_
      refine zm_topi (y := 2) (by simp [zu]) ?_
      refine lv_if_le (tgt := 47) hx hb dX3_clear_42 (by decide) (fun c_4 => absurd c_4 (by decide)) (fun _ => ?_)
      refine lv_iconst (v := 0) hx hb dX3_clear_45 (by decide) ?_
      have e1 : (0 : Int32) = (m_clear X (nI p)).1 := by first | (simp [m_clear, mHd_w, mIn_w, mWs_w, mIs_w, mN_w, mK_w, mBo_w0, zu_zu, hcp, c_2, c_3]; done) | (simp [m_clear, mHd_w, mIn_w, mWs_w, mIs_w, mN_w, mK_w, mBo_w0, zu_zu, hcp, c_2, c_3, zin]; done)
      have e2 : zu X 0 0 2 = (m_clear X (nI p)).2 := by first | (simp [m_clear, mHd_w, mIn_w, mWs_w, mIs_w, mN_w, mK_w, mBo_w0, zu_zu, hcp, c_2, c_3]; done) | (simp [m_clear, mHd_w, mIn_w, mWs_w, mIs_w, mN_w, mK_w, mBo_w0, zu_zu, hcp, c_2, c_3, zin]; done)
      rw [e2] at hX
      exact ze_i hx hb hr hlocks hS dX3_clear_46 (Nat.le_refl _) (Nat.le_refl _) () e1 hX
    · refine lv_aload_n hx hb dX3_clear_22 rfl (lv_at hl 0 rfl) ?_
      refine lv_iload_n hx hb dX3_clear_23 rfl (lv_at hl 1 rfl) ?_
      refine zc_i (zr_V (As := [.int (nI p)]) (rest := [.ref mo]) ⟨hx, hb, hml, hown, hts⟩ (ct_X3_isBound l g A mo ma X p hI hp hz12) zn_X3_isBound (lw_V q1149 q1151 qs17 q48 q1152) rfl (by decide) (by decide) hK (fun _ h => h) hS hX (zx_recv hK hX) rfl hl.1 (Nat.le_of_ble_eq_true rfl) dX3_clear_24 ⟨Nat.le_refl _, Nat.le_refl _⟩) hS (fun _ h => h) (fun r _ H locs r_5 hX _ _ hS => ?_)
      subst r_5
      refine lv_if_eq (tgt := 34) hx hb dX3_clear_27 (by decide) (fun c_6 => ?_) (fun c_6 => ?_)
      · refine lv_iconst (v := 0) hx hb dX3_clear_34 (by decide) ?_
        refine zx_put hx hb hown hts hK hX hS 0 (by decide) rfl q1021 rfl rfl rfl rfl dX3_clear_35 (fun H locs hX hS => ?_)
        refine lv_aload_n hx hb dX3_clear_38 rfl (lv_at hl 0 rfl) ?_
        refine zx_get hx hb hown hts hK hX 0 (by decide) q1021 rfl rfl dX3_clear_39 ?_
        refine zm_topi (y := 0) (by simp [zu]) ?_
        refine lv_if_le (tgt := 47) hx hb dX3_clear_42 (by decide) (fun _ => ?_) (fun c_7 => absurd (by decide) c_7)
        refine lv_aload_n hx hb dX3_clear_47 rfl (lv_at hl 0 rfl) ?_
        refine zx_get hx hb hown hts hK hX 18 (by decide) q1039 rfl rfl dX3_clear_48 ?_
        refine lv_iload_n hx hb dX3_clear_51 rfl (lv_at hl 1 rfl) ?_
        refine zx_ld (i := p) hx hb hK hX 18 rfl rfl (n := 60) rfl (by omega) dX3_clear_52 ?_
        refine zm_topi (y := X 18 p) (by simp [zu]) ?_
        refine lv_istore_n (lv' := [(2, .int (X 18 p)), (0, .ref mo), (1, .int (nI p))]) hx hb dX3_clear_53 rfl hl (by decide) rfl (fun ls hl => ?_)
        refine lv_aload_n hx hb dX3_clear_54 rfl (lv_at hl 1 rfl) ?_
        refine zx_get hx hb hown hts hK hX 9 (by decide) q1030 rfl rfl dX3_clear_55 ?_
        refine lv_iload_n hx hb dX3_clear_58 rfl (lv_at hl 2 rfl) ?_
        refine lv_iconst (v := 0) hx hb dX3_clear_59 (by decide) ?_
        refine zx_stz (i := p) hx hb hK hX hS 9 rfl rfl (n := 60) rfl (by omega) (Or.inl rfl) dX3_clear_60 (fun H locs hX hS => ?_)
        refine lv_aload_n hx hb dX3_clear_61 rfl (lv_at hl 1 rfl) ?_
        refine zx_get hx hb hown hts hK hX 18 (by decide) q1039 rfl rfl dX3_clear_62 ?_
        refine lv_iload_n hx hb dX3_clear_65 rfl (lv_at hl 2 rfl) ?_
        refine lv_iconst (v := 0) hx hb dX3_clear_66 (by decide) ?_
        refine zx_st (i := p) hx hb hK hX hS 18 rfl rfl (n := 60) rfl (by omega) dX3_clear_67 (fun H locs hX hS => ?_)
        refine lv_iload_n hx hb dX3_clear_68 rfl (lv_at hl 0 rfl) ?_
        have e1 : (X 18 p : Int32) = (m_clear X (nI p)).1 := by first | (simp [m_clear, mHd_w, mIn_w, mWs_w, mIs_w, mN_w, mK_w, mBo_w0, zu_zu, hcp, c_2, c_3, c_6]; done) | (simp [m_clear, mHd_w, mIn_w, mWs_w, mIs_w, mN_w, mK_w, mBo_w0, zu_zu, hcp, c_2, c_3, c_6, zin]; done)
        have e2 : zu (zu (zu X 0 0 0) 9 p 0) 18 p 0 = (m_clear X (nI p)).2 := by first | (simp [m_clear, mHd_w, mIn_w, mWs_w, mIs_w, mN_w, mK_w, mBo_w0, zu_zu, hcp, c_2, c_3, c_6]; done) | (simp [m_clear, mHd_w, mIn_w, mWs_w, mIs_w, mN_w, mK_w, mBo_w0, zu_zu, hcp, c_2, c_3, c_6, zin]; done)
        rw [e2] at hX
        exact ze_i hx hb hr hlocks hS dX3_clear_69 (Nat.le_refl _) (Nat.le_refl _) () e1 hX
      · refine lv_iconst (v := 2) hx hb dX3_clear_30 (by decide) ?_
        refine lv_goto (tgt := 35) hx hb dX3_clear_31 (by decide) ?_
        refine zx_put hx hb hown hts hK hX hS 0 (by decide) rfl q1021 rfl rfl rfl rfl dX3_clear_35 (fun H locs hX hS => ?_)
        refine lv_aload_n hx hb dX3_clear_38 rfl (lv_at hl 0 rfl) ?_
        refine zx_get hx hb hown hts hK hX 0 (by decide) q1021 rfl rfl dX3_clear_39 ?_
        refine zm_topi (y := 2) (by simp [zu]) ?_
        refine lv_if_le (tgt := 47) hx hb dX3_clear_42 (by decide) (fun c_8 => absurd c_8 (by decide)) (fun _ => ?_)
        refine lv_iconst (v := 0) hx hb dX3_clear_45 (by decide) ?_
        have e1 : (0 : Int32) = (m_clear X (nI p)).1 := by first | (simp [m_clear, mHd_w, mIn_w, mWs_w, mIs_w, mN_w, mK_w, mBo_w0, zu_zu, hcp, c_2, c_3, c_6]; done) | (simp [m_clear, mHd_w, mIn_w, mWs_w, mIs_w, mN_w, mK_w, mBo_w0, zu_zu, hcp, c_2, c_3, c_6, zin]; done)
        have e2 : zu X 0 0 2 = (m_clear X (nI p)).2 := by first | (simp [m_clear, mHd_w, mIn_w, mWs_w, mIs_w, mN_w, mK_w, mBo_w0, zu_zu, hcp, c_2, c_3, c_6]; done) | (simp [m_clear, mHd_w, mIn_w, mWs_w, mIs_w, mN_w, mK_w, mBo_w0, zu_zu, hcp, c_2, c_3, c_6, zin]; done)
        rw [e2] at hX
        exact ze_i hx hb hr hlocks hS dX3_clear_46 (Nat.le_refl _) (Nat.le_refl _) () e1 hX
  · refine lv_iconst (v := 1) hx hb dX3_clear_9 (by decide) ?_
    refine lv_goto (tgt := 35) hx hb dX3_clear_10 (by decide) ?_
    refine zx_put hx hb hown hts hK hX hS 0 (by decide) rfl q1021 rfl rfl rfl rfl dX3_clear_35 (fun H locs hX hS => ?_)
    refine lv_aload_n hx hb dX3_clear_38 rfl (lv_at hl 0 rfl) ?_
    refine zx_get hx hb hown hts hK hX 0 (by decide) q1021 rfl rfl dX3_clear_39 ?_
    refine zm_topi (y := 1) (by simp [zu]) ?_
    refine lv_if_le (tgt := 47) hx hb dX3_clear_42 (by decide) (fun c_9 => absurd c_9 (by decide)) (fun _ => ?_)
    refine lv_iconst (v := 0) hx hb dX3_clear_45 (by decide) ?_
    have e1 : (0 : Int32) = (m_clear X x).1 := by first | (simp [m_clear, mHd_w, mIn_w, mWs_w, mIs_w, mN_w, mK_w, mBo_w0, zu_zu, c_2]; done) | (simp [m_clear, mHd_w, mIn_w, mWs_w, mIs_w, mN_w, mK_w, mBo_w0, zu_zu, c_2, zin]; done)
    have e2 : zu X 0 0 1 = (m_clear X x).2 := by first | (simp [m_clear, mHd_w, mIn_w, mWs_w, mIs_w, mN_w, mK_w, mBo_w0, zu_zu, c_2]; done) | (simp [m_clear, mHd_w, mIn_w, mWs_w, mIs_w, mN_w, mK_w, mBo_w0, zu_zu, c_2, zin]; done)
    rw [e2] at hX
    exact ze_i hx hb hr hlocks hS dX3_clear_46 (Nat.le_refl _) (Nat.le_refl _) () e1 hX
theorem zn_X3_recall : zN yX3_recall 1 := by decide +kernel
set_option maxHeartbeats 4000000 in
theorem ct_X3_recall (l : Launch) (g : zG) (A : Nat → Prop) (mo : Nat) (ma : Nat → Nat) (X : zX) (a : Int32) (hI : MH X) : Met l yX3_recall (ws_ yX3_recall cX3_recall 4 (some .int)) (zR 3 0 0) (zP [.ref mo, .int a] g A (zMX g A mo ma X)) (va_Qi (fun rz_ (_ : Unit) => rz_ = (m_recall X a).1) (fun (_ : Unit) t => zMX g A mo ma ((m_recall X a).2) t.heap) A) 0 0 A := by
  refine zb_met (by decide) (Nat.le_of_ble_eq_true rfl) ?_
  intro p e s m args below meth c ls hx hb hr hml hown hts hlocks hnm hK hX ha hl
  have hown : s.vm.findClass RX3 = some m.cls := hown
  have hS : va_S A s.heap s.heap [] := va_S.rf
  have hl : lv_has ls 4 [(0, .ref mo), (1, .int a)] := hl
  have hn60 := hI.1.2
  refine lv_aload_n hx hb dX3_recall_0 rfl (lv_at hl 0 rfl) ?_
  refine lv_iload_n hx hb dX3_recall_1 rfl (lv_at hl 1 rfl) ?_
  refine lv_iconst (v := 0) hx hb dX3_recall_2 (by decide) ?_
  refine lv_bipush (v := 9) hx hb dX3_recall_3 (by decide) ?_
  refine zc_i (zr_S (As := [.int a, .int 0, .int 9]) (rest := [.ref mo]) ⟨hx, hb, hml, hown, hts⟩ (ct_X3_in l g A (zMX g A mo ma X) a 0 9) zn_X3_in (lw_S q1130 q1131 q48 q1132) (by decide) (by decide) hK (fun _ h => h) hS hX rfl hl.1 (Nat.le_of_ble_eq_true rfl) dX3_recall_5 ⟨Nat.le_refl _, Nat.le_refl _⟩) hS (fun _ h => h) (fun r _ H locs r_1 hX _ _ hS => ?_)
  subst r_1
  refine zl_ifeq (tgt := 15) hx hb dX3_recall_8 (by decide) (fun c_2 => ?_) (fun c_2 => ?_)
  · refine lv_iconst (v := 1) hx hb dX3_recall_15 (by decide) ?_
    have hz0 := c_2
    refine zx_put hx hb hown hts hK hX hS 0 (by decide) rfl q1021 rfl rfl rfl rfl dX3_recall_16 (fun H locs hX hS => ?_)
    refine lv_iconst (v := 0) hx hb dX3_recall_19 (by decide) ?_
    refine lv_istore_n (lv' := [(2, .int 0), (0, .ref mo), (1, .int a)]) hx hb dX3_recall_20 rfl hl (by decide) rfl (fun ls hl => ?_)
    refine lv_iconst (v := 0) hx hb dX3_recall_21 (by decide) ?_
    refine lv_istore_n (lv' := [(3, .int 0), (2, .int 0), (0, .ref mo), (1, .int a)]) hx hb dX3_recall_22 rfl hl (by decide) rfl (fun ls hl => ?_)
    refine lv_iload_n hx hb dX3_recall_23 rfl (lv_at hl 0 rfl) ?_
    refine lv_aload_n hx hb dX3_recall_24 rfl (lv_at hl 2 rfl) ?_
    refine zx_get hx hb hown hts hK hX 1 (by decide) q1022 rfl rfl dX3_recall_25 ?_
    refine zm_topi (y := X 1 0) (by simp [zu]) ?_
    refine zm_topi (y := nI (mN X)) (hI.1.1) ?_
    refine zl_ge (tgt := 89) (a := 0) (b := mN X) hx hb (by first | decide | omega) (by first | decide | omega) dX3_recall_28 (by decide) (fun c_3 => ?_) (fun c_3 => ?_)
    · refine lv_iload_n hx hb dX3_recall_89 rfl (lv_at hl 1 rfl) ?_
      have e1 : (0 : Int32) = (m_recall X a).1 := by simp [m_recall, c_2, c_3]
      have e2 : zu X 0 0 1 = (m_recall X a).2 := by simp [m_recall, c_2, c_3]
      rw [e2] at hX
      exact ze_i hx hb hr hlocks hS dX3_recall_90 (Nat.le_refl _) (Nat.le_refl _) () e1 hX
    · refine lv_aload_n hx hb dX3_recall_31 rfl (lv_at hl 2 rfl) ?_
      refine zx_get hx hb hown hts hK hX 0 (by decide) q1021 rfl rfl dX3_recall_32 ?_
      refine zm_topi (y := 1) (by simp [zu]) ?_
      refine lv_if_ne (tgt := 89) hx hb dX3_recall_35 (by decide) (fun _ => ?_) (fun c_4 => absurd c_4 (by decide))
      refine lv_iload_n hx hb dX3_recall_89 rfl (lv_at hl 1 rfl) ?_
      have e1 : (0 : Int32) = (m_recall X a).1 := by simp [m_recall, c_2, c_3]
      have e2 : zu X 0 0 1 = (m_recall X a).2 := by simp [m_recall, c_2, c_3]
      rw [e2] at hX
      exact ze_i hx hb hr hlocks hS dX3_recall_90 (Nat.le_refl _) (Nat.le_refl _) () e1 hX
  · refine lv_iconst (v := 0) hx hb dX3_recall_11 (by decide) ?_
    refine lv_goto (tgt := 16) hx hb dX3_recall_12 (by decide) ?_
    have hz0 := c_2
    refine zx_put hx hb hown hts hK hX hS 0 (by decide) rfl q1021 rfl rfl rfl rfl dX3_recall_16 (fun H locs hX hS => ?_)
    refine lv_iconst (v := 0) hx hb dX3_recall_19 (by decide) ?_
    refine lv_istore_n (lv' := [(2, .int 0), (0, .ref mo), (1, .int a)]) hx hb dX3_recall_20 rfl hl (by decide) rfl (fun ls hl => ?_)
    refine lv_iconst (v := 0) hx hb dX3_recall_21 (by decide) ?_
    refine lv_istore_n (lv' := [(3, .int 0), (2, .int 0), (0, .ref mo), (1, .int a)]) hx hb dX3_recall_22 rfl hl (by decide) rfl (fun ls hl => ?_)
    have L_6 : ∀ (n_5 : Nat) (j : Nat), mN X + 1 - j < n_5 → (j ≤ mN X) → ∀ (H : Heap) (locs : List Loc) (ls : Array Slot), zMX g A mo ma ((zrc (zu X 0 0 0) a j).2) H → va_S A s.heap H locs → lv_has ls 4 [(3, .int (nI j)), (2, .int (nI ((zrc (zu X 0 0 0) a j).1))), (0, .ref mo), (1, .int a)] → W p l e (zR 3 0 0) s m args below meth c H locs 0 0 (MQ below (va_Qi (fun rz_ (_ : Unit) => rz_ = (m_recall X a).1) (fun (_ : Unit) t => zMX g A mo ma ((m_recall X a).2) t.heap) A) args s 0 0 A) (F0 m 23 ls []) := by
      intro n_5
      induction n_5 with
      | zero => intro j hm; exact absurd hm (Nat.not_lt_zero _)
      | succ n_5 ih =>
        intro j hm hj H locs ls hX hS hl
        have ih_7 := ih
        refine lv_iload_n hx hb dX3_recall_23 rfl (lv_at hl 0 rfl) ?_
        refine lv_aload_n hx hb dX3_recall_24 rfl (lv_at hl 2 rfl) ?_
        refine zx_get hx hb hown hts hK hX 1 (by decide) q1022 rfl rfl dX3_recall_25 ?_
        refine zm_topi (y := nI (mN X)) (by rw [zrc_cg _ _ (by decide) (by decide)]; simpa [zu] using hI.1.1) ?_
        refine zl_ge (tgt := 89) (a := j) (b := mN X) hx hb (by first | decide | omega) (by first | decide | omega) dX3_recall_28 (by decide) (fun c_8 => ?_) (fun c_8 => ?_)
        · refine lv_iload_n hx hb dX3_recall_89 rfl (lv_at hl 1 rfl) ?_
          have e1 : (nI ((zrc (zu X 0 0 0) a j).1) : Int32) = (m_recall X a).1 := by have q2 : j = mN X := (by omega); subst q2; simp [m_recall, hz0]
          have e2 : (zrc (zu X 0 0 0) a j).2 = (m_recall X a).2 := by have q2 : j = mN X := (by omega); subst q2; simp [m_recall, hz0]
          rw [e2] at hX
          exact ze_i hx hb hr hlocks hS dX3_recall_90 (Nat.le_refl _) (Nat.le_refl _) () e1 hX
        · have hjl : j < mN X := c_8
          refine lv_aload_n hx hb dX3_recall_31 rfl (lv_at hl 2 rfl) ?_
          refine zx_get hx hb hown hts hK hX 0 (by decide) q1021 rfl rfl dX3_recall_32 ?_
          refine zm_topi (y := 0) (by rw [zrc_cg _ _ (by decide) (by decide)]; simp [zu]) ?_
          refine lv_if_ne (tgt := 89) hx hb dX3_recall_35 (by decide) (fun c_9 => absurd (by decide) c_9) (fun _ => ?_)
          refine lv_aload_n hx hb dX3_recall_38 rfl (lv_at hl 2 rfl) ?_
          refine zx_get hx hb hown hts hK hX 3 (by decide) q1024 rfl rfl dX3_recall_39 ?_
          refine lv_iload_n hx hb dX3_recall_42 rfl (lv_at hl 0 rfl) ?_
          refine zx_ld (i := j) hx hb hK hX 3 rfl rfl (n := 60) rfl (by omega) dX3_recall_43 ?_
          refine zm_topi (y := X 3 j) (by rw [zrc_cg _ _ (by decide) (by decide)]; simp [zu]) ?_
          refine lv_iload_n hx hb dX3_recall_44 rfl (lv_at hl 3 rfl) ?_
          refine lv_icmp_ne (tgt := 83) hx hb dX3_recall_45 (by decide) (fun c_10 => ?_) (fun c_10 => ?_)
          · have hzz : zrc (zu X 0 0 0) a (j + 1) = zrc (zu X 0 0 0) a j := by simp [zrc, zrc_cg, zu, c_2, c_8, c_10]
            have hX : zMX g A mo ma (zrc (zu X 0 0 0) a (j + 1)).2 H := by rw [hzz]; exact hX
            have hl : lv_has ls 4 [(3, .int (nI j)), (2, .int (nI (zrc (zu X 0 0 0) a (j + 1)).1)), (0, .ref mo), (1, .int a)] := by rw [hzz]; exact hl
            refine lv_iinc (v := nI (j + 1)) (lv' := [(3, .int (nI (j + 1))), (2, .int (nI (zrc (zu X 0 0 0) a (j + 1)).1)), (0, .ref mo), (1, .int a)]) hx hb dX3_recall_83 hl (k := 0) rfl (nI_1 j) (by decide) rfl (fun ls hl => ?_)
            refine lv_goto (tgt := 23) hx hb dX3_recall_86 (by decide) ?_
            exact ih_7 (j + 1) (by omega) (by omega) _ _ _ hX hS (lv_sub hl [0, 1, 2, 3] rfl)
          · refine lv_aload_n hx hb dX3_recall_48 rfl (lv_at hl 2 rfl) ?_
            refine zx_get hx hb hown hts hK hX 5 (by decide) q1026 rfl rfl dX3_recall_49 ?_
            refine lv_iload_n hx hb dX3_recall_52 rfl (lv_at hl 0 rfl) ?_
            refine zx_ld (i := j) hx hb hK hX 5 rfl rfl (n := 60) rfl (by omega) dX3_recall_53 ?_
            refine zm_topi (y := X 5 j) (by rw [zrc_cg _ _ (by decide) (by decide)]; simp [zu]) ?_
            refine lv_bipush (v := (-2)) hx hb dX3_recall_54 (by decide) ?_
            refine lv_icmp_eq (tgt := 83) hx hb dX3_recall_56 (by decide) (fun c_11 => ?_) (fun c_11 => ?_)
            · have hzz : zrc (zu X 0 0 0) a (j + 1) = zrc (zu X 0 0 0) a j := by simp [zrc, zrc_cg, zu, c_2, c_8, c_10, c_11]
              have hX : zMX g A mo ma (zrc (zu X 0 0 0) a (j + 1)).2 H := by rw [hzz]; exact hX
              have hl : lv_has ls 4 [(3, .int (nI j)), (2, .int (nI (zrc (zu X 0 0 0) a (j + 1)).1)), (0, .ref mo), (1, .int a)] := by rw [hzz]; exact hl
              refine lv_iinc (v := nI (j + 1)) (lv' := [(3, .int (nI (j + 1))), (2, .int (nI (zrc (zu X 0 0 0) a (j + 1)).1)), (0, .ref mo), (1, .int a)]) hx hb dX3_recall_83 hl (k := 0) rfl (nI_1 j) (by decide) rfl (fun ls hl => ?_)
              refine lv_goto (tgt := 23) hx hb dX3_recall_86 (by decide) ?_
              exact ih_7 (j + 1) (by omega) (by omega) _ _ _ hX hS (lv_sub hl [0, 1, 2, 3] rfl)
            · refine lv_aload_n hx hb dX3_recall_59 rfl (lv_at hl 2 rfl) ?_
              refine zx_get hx hb hown hts hK hX 10 (by decide) q1031 rfl rfl dX3_recall_60 ?_
              refine lv_iload_n hx hb dX3_recall_63 rfl (lv_at hl 0 rfl) ?_
              refine zx_ldz (i := j) hx hb hK hX 10 rfl rfl (n := 60) rfl (by omega) dX3_recall_64 ?_
              refine lv_if_ne (tgt := 83) hx hb dX3_recall_65 (by decide) (fun c_12 => ?_) (fun c_12 => ?_)
              · have hzz : zrc (zu X 0 0 0) a (j + 1) = zrc (zu X 0 0 0) a j := by simp [zrc, zrc_cg, zu, c_2, c_8, c_10, c_11, c_12]
                have hX : zMX g A mo ma (zrc (zu X 0 0 0) a (j + 1)).2 H := by rw [hzz]; exact hX
                have hl : lv_has ls 4 [(3, .int (nI j)), (2, .int (nI (zrc (zu X 0 0 0) a (j + 1)).1)), (0, .ref mo), (1, .int a)] := by rw [hzz]; exact hl
                refine lv_iinc (v := nI (j + 1)) (lv' := [(3, .int (nI (j + 1))), (2, .int (nI (zrc (zu X 0 0 0) a (j + 1)).1)), (0, .ref mo), (1, .int a)]) hx hb dX3_recall_83 hl (k := 0) rfl (nI_1 j) (by decide) rfl (fun ls hl => ?_)
                refine lv_goto (tgt := 23) hx hb dX3_recall_86 (by decide) ?_
                exact ih_7 (j + 1) (by omega) (by omega) _ _ _ hX hS (lv_sub hl [0, 1, 2, 3] rfl)
              · refine lv_aload_n hx hb dX3_recall_68 rfl (lv_at hl 2 rfl) ?_
                refine zx_get hx hb hown hts hK hX 10 (by decide) q1031 rfl rfl dX3_recall_69 ?_
                refine lv_iload_n hx hb dX3_recall_72 rfl (lv_at hl 0 rfl) ?_
                refine lv_iconst (v := 1) hx hb dX3_recall_73 (by decide) ?_
                refine zx_stz (i := j) hx hb hK hX hS 10 rfl rfl (n := 60) rfl (by omega) (Or.inr rfl) dX3_recall_74 (fun H locs hX hS => ?_)
                refine lv_aload_n hx hb dX3_recall_75 rfl (lv_at hl 2 rfl) ?_
                refine lv_iload_n hx hb dX3_recall_76 rfl (lv_at hl 0 rfl) ?_
                refine zc_v (zr_V (As := [.int (nI j)]) (rest := []) ⟨hx, hb, hml, hown, hts⟩ (ct_X3_ends l g A mo ma (zu ((zrc (zu X 0 0 0) a j).2) 10 j 1) j (((hI.w 0 0 0 (by decide) (by decide) (by decide)).rc a j).w 10 j 1 (by decide) (by decide) (by decide)) (by have hz_ := show j < mN X from hjl; simpa [mN_w, m_moves, m_ends, mN_goes, mN_hl, mN_rc] using hz_)) zn_X3_ends (lw_V q1165 q1167 qs21 q48 q1168) rfl (by decide) (by decide) hK (fun _ h => h) hS hX (zx_recv hK hX) rfl hl.1 (Nat.le_of_ble_eq_true rfl) dX3_recall_77 ⟨Nat.le_refl _, Nat.le_refl _⟩) hS (fun _ h => h) (fun _ H locs _ hX _ _ hS => ?_)
                refine lv_iinc (v := nI ((zrc (zu X 0 0 0) a j).1 + 1)) (lv' := [(2, .int (nI ((zrc (zu X 0 0 0) a j).1 + 1))), (3, .int (nI j)), (0, .ref mo), (1, .int a)]) hx hb dX3_recall_80 hl (k := 1) rfl (nI_1 ((zrc (zu X 0 0 0) a j).1)) (by decide) rfl (fun ls hl => ?_)
                have hzz : zrc (zu X 0 0 0) a (j + 1) = ((zrc (zu X 0 0 0) a j).1 + 1, m_ends (zu (zrc (zu X 0 0 0) a j).2 10 j 1) j) := by simp [zrc, zrc_cg, zu, c_2, c_8, c_10, c_11, c_12]
                have hX : zMX g A mo ma (zrc (zu X 0 0 0) a (j + 1)).2 H := by rw [hzz]; exact hX
                have hl : lv_has ls 4 [(2, .int (nI (zrc (zu X 0 0 0) a (j + 1)).1)), (3, .int (nI j)), (0, .ref mo), (1, .int a)] := by rw [hzz]; exact hl
                refine lv_iinc (v := nI (j + 1)) (lv' := [(3, .int (nI (j + 1))), (2, .int (nI (zrc (zu X 0 0 0) a (j + 1)).1)), (0, .ref mo), (1, .int a)]) hx hb dX3_recall_83 hl (k := 1) rfl (nI_1 j) (by decide) rfl (fun ls hl => ?_)
                refine lv_goto (tgt := 23) hx hb dX3_recall_86 (by decide) ?_
                exact ih_7 (j + 1) (by omega) (by omega) _ _ _ hX hS (lv_sub hl [0, 1, 2, 3] rfl)
    exact L_6 ((mN X + 1 - 0) + 1) 0 (Nat.lt_succ_self _) (by omega) _ _ _ hX hS (lv_sub hl [0, 1, 2, 3] rfl)
