/-! THE REFERENCE's METHODS, 4: their contracts -/
theorem zn_X3_host : zN yX3_host 1 := by decide +kernel
set_option maxHeartbeats 4000000 in
theorem ct_X3_host (l : Launch) (g : zG) (A : Nat → Prop) (mo : Nat) (ma : Nat → Nat) (X : zX) (x : Int32) (hI : MH X) : Met l yX3_host (ws_ yX3_host cX3_host 2 (some .int)) (zR 3 0 0) (zP [.ref mo, .int x] g A (zMX g A mo ma X)) (va_Qi (fun rz_ (_ : Unit) => rz_ = (m_host X x).1) (fun (_ : Unit) t => zMX g A mo ma ((m_host X x).2) t.heap) A) 0 0 A := by
  refine zb_met (by decide) (Nat.le_of_ble_eq_true rfl) ?_
  intro p e s m args below meth c ls hx hb hr hml hown hts hlocks hnm hK hX ha hl
  have hown : s.vm.findClass RX3 = some m.cls := hown
  have hS : va_S A s.heap s.heap [] := va_S.rf
  have hl : lv_has ls 2 [(0, .ref mo), (1, .int x)] := hl
  have hn60 := hI.1.2
  refine lv_aload_n hx hb dX3_host_0 rfl (lv_at hl 0 rfl) ?_
  refine lv_aload_n hx hb dX3_host_1 rfl (lv_at hl 0 rfl) ?_
  refine lv_iload_n hx hb dX3_host_2 rfl (lv_at hl 1 rfl) ?_
  refine zc_i (zr_V (As := [.int x]) (rest := [.ref mo]) ⟨hx, hb, hml, hown, hts⟩ (ct_X3_isPart l g A mo ma X x) zn_X3_isPart (lw_V q1142 q1144 qs16 q48 q1145) rfl (by decide) (by decide) hK (fun _ h => h) hS hX (zx_recv hK hX) rfl hl.1 (Nat.le_of_ble_eq_true rfl) dX3_host_3 ⟨Nat.le_refl _, Nat.le_refl _⟩) hS (fun _ h => h) (fun r _ H locs r_1 hX _ _ hS => ?_)
  subst r_1
  refine zl_ifeq (tgt := 13) hx hb dX3_host_6 (by decide) (fun c_2 => ?_) (fun c_2 => ?_)
  · refine lv_iconst (v := 1) hx hb dX3_host_13 (by decide) ?_
    refine zx_put hx hb hown hts hK hX hS 0 (by decide) rfl q1021 rfl rfl rfl rfl dX3_host_14 (fun H locs hX hS => ?_)
    refine lv_aload_n hx hb dX3_host_17 rfl (lv_at hl 0 rfl) ?_
    refine zx_get hx hb hown hts hK hX 0 (by decide) q1021 rfl rfl dX3_host_18 ?_
    refine zm_topi (y := 1) (by simp [zu]) ?_
    refine lv_if_le (tgt := 28) hx hb dX3_host_21 (by decide) (fun c_3 => absurd c_3 (by decide)) (fun _ => ?_)
    refine lv_iconst (v := 0) hx hb dX3_host_24 (by decide) ?_
    refine lv_goto (tgt := 34) hx hb dX3_host_25 (by decide) ?_
    have e1 : (0 : Int32) = (m_host X x).1 := by first | (simp [m_host, mHd_w, mIn_w, mWs_w, mIs_w, mN_w, mK_w, mBo_w0, zu_zu, c_2]; done) | (simp [m_host, mHd_w, mIn_w, mWs_w, mIs_w, mN_w, mK_w, mBo_w0, zu_zu, c_2, zin]; done)
    have e2 : zu X 0 0 1 = (m_host X x).2 := by first | (simp [m_host, mHd_w, mIn_w, mWs_w, mIs_w, mN_w, mK_w, mBo_w0, zu_zu, c_2]; done) | (simp [m_host, mHd_w, mIn_w, mWs_w, mIs_w, mN_w, mK_w, mBo_w0, zu_zu, c_2, zin]; done)
    rw [e2] at hX
    exact ze_i hx hb hr hlocks hS dX3_host_34 (Nat.le_refl _) (Nat.le_refl _) () e1 hX
  · obtain ⟨p, hp, rfl⟩ := mIs_t hI c_2
    have hcp : (nI p).toNatClampNeg = p := nI_clamp (by omega)
    refine lv_iconst (v := 0) hx hb dX3_host_9 (by decide) ?_
    refine lv_goto (tgt := 14) hx hb dX3_host_10 (by decide) ?_
    refine zx_put hx hb hown hts hK hX hS 0 (by decide) rfl q1021 rfl rfl rfl rfl dX3_host_14 (fun H locs hX hS => ?_)
    refine lv_aload_n hx hb dX3_host_17 rfl (lv_at hl 0 rfl) ?_
    refine zx_get hx hb hown hts hK hX 0 (by decide) q1021 rfl rfl dX3_host_18 ?_
    refine zm_topi (y := 0) (by simp [zu]) ?_
    refine lv_if_le (tgt := 28) hx hb dX3_host_21 (by decide) (fun _ => ?_) (fun c_4 => absurd (by decide) c_4)
    refine lv_aload_n hx hb dX3_host_28 rfl (lv_at hl 0 rfl) ?_
    refine zx_get hx hb hown hts hK hX 5 (by decide) q1026 rfl rfl dX3_host_29 ?_
    refine lv_iload_n hx hb dX3_host_32 rfl (lv_at hl 1 rfl) ?_
    refine zx_ld (i := p) hx hb hK hX 5 rfl rfl (n := 60) rfl (by omega) dX3_host_33 ?_
    refine zm_topi (y := X 5 p) (by simp [zu]) ?_
    have e1 : (X 5 p : Int32) = (m_host X (nI p)).1 := by first | (simp [m_host, mHd_w, mIn_w, mWs_w, mIs_w, mN_w, mK_w, mBo_w0, zu_zu, hcp, c_2]; done) | (simp [m_host, mHd_w, mIn_w, mWs_w, mIs_w, mN_w, mK_w, mBo_w0, zu_zu, hcp, c_2, zin]; done)
    have e2 : zu X 0 0 0 = (m_host X (nI p)).2 := by first | (simp [m_host, mHd_w, mIn_w, mWs_w, mIs_w, mN_w, mK_w, mBo_w0, zu_zu, hcp, c_2]; done) | (simp [m_host, mHd_w, mIn_w, mWs_w, mIs_w, mN_w, mK_w, mBo_w0, zu_zu, hcp, c_2, zin]; done)
    rw [e2] at hX
    exact ze_i hx hb hr hlocks hS dX3_host_34 (Nat.le_refl _) (Nat.le_refl _) () e1 hX
theorem zn_X3_head : zN yX3_head 1 := by decide +kernel
set_option maxHeartbeats 4000000 in
theorem ct_X3_head (l : Launch) (g : zG) (A : Nat → Prop) (mo : Nat) (ma : Nat → Nat) (X : zX) (x : Int32) (hI : MH X) : Met l yX3_head (ws_ yX3_head cX3_head 2 (some .int)) (zR 3 0 0) (zP [.ref mo, .int x] g A (zMX g A mo ma X)) (va_Qi (fun rz_ (_ : Unit) => rz_ = (m_head X x).1) (fun (_ : Unit) t => zMX g A mo ma ((m_head X x).2) t.heap) A) 0 0 A := by
  refine zb_met (by decide) (Nat.le_of_ble_eq_true rfl) ?_
  intro p e s m args below meth c ls hx hb hr hml hown hts hlocks hnm hK hX ha hl
  have hown : s.vm.findClass RX3 = some m.cls := hown
  have hS : va_S A s.heap s.heap [] := va_S.rf
  have hl : lv_has ls 2 [(0, .ref mo), (1, .int x)] := hl
  have hn60 := hI.1.2
  refine lv_aload_n hx hb dX3_head_0 rfl (lv_at hl 0 rfl) ?_
  refine lv_aload_n hx hb dX3_head_1 rfl (lv_at hl 0 rfl) ?_
  refine lv_iload_n hx hb dX3_head_2 rfl (lv_at hl 1 rfl) ?_
  refine zc_i (zr_V (As := [.int x]) (rest := [.ref mo]) ⟨hx, hb, hml, hown, hts⟩ (ct_X3_isPart l g A mo ma X x) zn_X3_isPart (lw_V q1142 q1144 qs16 q48 q1145) rfl (by decide) (by decide) hK (fun _ h => h) hS hX (zx_recv hK hX) rfl hl.1 (Nat.le_of_ble_eq_true rfl) dX3_head_3 ⟨Nat.le_refl _, Nat.le_refl _⟩) hS (fun _ h => h) (fun r _ H locs r_1 hX _ _ hS => ?_)
  subst r_1
  refine zl_ifeq (tgt := 13) hx hb dX3_head_6 (by decide) (fun c_2 => ?_) (fun c_2 => ?_)
  · refine lv_iconst (v := 1) hx hb dX3_head_13 (by decide) ?_
    refine zx_put hx hb hown hts hK hX hS 0 (by decide) rfl q1021 rfl rfl rfl rfl dX3_head_14 (fun H locs hX hS => ?_)
    refine lv_aload_n hx hb dX3_head_17 rfl (lv_at hl 0 rfl) ?_
    refine zx_get hx hb hown hts hK hX 0 (by decide) q1021 rfl rfl dX3_head_18 ?_
    refine zm_topi (y := 1) (by simp [zu]) ?_
    refine lv_if_le (tgt := 28) hx hb dX3_head_21 (by decide) (fun c_3 => absurd c_3 (by decide)) (fun _ => ?_)
    refine lv_iconst (v := 0) hx hb dX3_head_24 (by decide) ?_
    refine lv_goto (tgt := 33) hx hb dX3_head_25 (by decide) ?_
    have e1 : (0 : Int32) = (m_head X x).1 := by first | (simp [m_head, mHd_w, mIn_w, mWs_w, mIs_w, mN_w, mK_w, mBo_w0, zu_zu, c_2]; done) | (simp [m_head, mHd_w, mIn_w, mWs_w, mIs_w, mN_w, mK_w, mBo_w0, zu_zu, c_2, zin]; done)
    have e2 : zu X 0 0 1 = (m_head X x).2 := by first | (simp [m_head, mHd_w, mIn_w, mWs_w, mIs_w, mN_w, mK_w, mBo_w0, zu_zu, c_2]; done) | (simp [m_head, mHd_w, mIn_w, mWs_w, mIs_w, mN_w, mK_w, mBo_w0, zu_zu, c_2, zin]; done)
    rw [e2] at hX
    exact ze_i hx hb hr hlocks hS dX3_head_33 (Nat.le_refl _) (Nat.le_refl _) () e1 hX
  · obtain ⟨p, hp, rfl⟩ := mIs_t hI c_2
    have hcp : (nI p).toNatClampNeg = p := nI_clamp (by omega)
    refine lv_iconst (v := 0) hx hb dX3_head_9 (by decide) ?_
    refine lv_goto (tgt := 14) hx hb dX3_head_10 (by decide) ?_
    refine zx_put hx hb hown hts hK hX hS 0 (by decide) rfl q1021 rfl rfl rfl rfl dX3_head_14 (fun H locs hX hS => ?_)
    refine lv_aload_n hx hb dX3_head_17 rfl (lv_at hl 0 rfl) ?_
    refine zx_get hx hb hown hts hK hX 0 (by decide) q1021 rfl rfl dX3_head_18 ?_
    refine zm_topi (y := 0) (by simp [zu]) ?_
    refine lv_if_le (tgt := 28) hx hb dX3_head_21 (by decide) (fun _ => ?_) (fun c_4 => absurd (by decide) c_4)
    refine lv_aload_n hx hb dX3_head_28 rfl (lv_at hl 0 rfl) ?_
    refine lv_iload_n hx hb dX3_head_29 rfl (lv_at hl 1 rfl) ?_
    refine zc_i (zr_V (As := [.int (nI p)]) (rest := []) ⟨hx, hb, hml, hown, hts⟩ (ct_X3_headOf l g A mo ma (zu X 0 0 0) p (hI.w 0 0 0 (by decide) (by decide) (by decide)) (by have hz_ := show p < mN X from hp; simpa [mN_w, m_moves, m_ends, mN_goes, mN_hl, mN_rc, m_trues] using hz_)) zn_X3_headOf (lw_V q1153 q1155 qs18 q48 q1156) rfl (by decide) (by decide) hK (fun _ h => h) hS hX (zx_recv hK hX) rfl hl.1 (Nat.le_of_ble_eq_true rfl) dX3_head_30 ⟨Nat.le_refl _, Nat.le_refl _⟩) hS (fun _ h => h) (fun r _ H locs r_5 hX _ _ hS => ?_)
    subst r_5
    refine zm_topi (y := nI (mHd X p)) (by simp [mN_w, mIs_w, mKc_w, mHd_w, mIi_w, mIn_w, mK_w, mH_w, mM_w, mW_w, zu, mBo_w0, mMp_w]) ?_
    have e1 : (nI (mHd X p) : Int32) = (m_head X (nI p)).1 := by first | (simp [m_head, mHd_w, mIn_w, mWs_w, mIs_w, mN_w, mK_w, mBo_w0, zu_zu, hcp, c_2]; done) | (simp [m_head, mHd_w, mIn_w, mWs_w, mIs_w, mN_w, mK_w, mBo_w0, zu_zu, hcp, c_2, zin]; done)
    have e2 : zu X 0 0 0 = (m_head X (nI p)).2 := by first | (simp [m_head, mHd_w, mIn_w, mWs_w, mIs_w, mN_w, mK_w, mBo_w0, zu_zu, hcp, c_2]; done) | (simp [m_head, mHd_w, mIn_w, mWs_w, mIs_w, mN_w, mK_w, mBo_w0, zu_zu, hcp, c_2, zin]; done)
    rw [e2] at hX
    exact ze_i hx hb hr hlocks hS dX3_head_33 (Nat.le_refl _) (Nat.le_refl _) () e1 hX
theorem zn_X3_lifeAnew : zN yX3_lifeAnew 1 := by decide +kernel
set_option maxHeartbeats 4000000 in
theorem ct_X3_lifeAnew (l : Launch) (g : zG) (A : Nat → Prop) (mo : Nat) (ma : Nat → Nat) (X : zX) (x : Int32) (hI : MH X) : Met l yX3_lifeAnew (ws_ yX3_lifeAnew cX3_lifeAnew 2 (some .int)) (zR 3 0 0) (zP [.ref mo, .int x] g A (zMX g A mo ma X)) (va_Qi (fun rz_ (_ : Unit) => rz_ = (m_life X x).1) (fun (_ : Unit) t => zMX g A mo ma ((m_life X x).2) t.heap) A) 0 0 A := by
  refine zb_met (by decide) (Nat.le_of_ble_eq_true rfl) ?_
  intro p e s m args below meth c ls hx hb hr hml hown hts hlocks hnm hK hX ha hl
  have hown : s.vm.findClass RX3 = some m.cls := hown
  have hS : va_S A s.heap s.heap [] := va_S.rf
  have hl : lv_has ls 2 [(0, .ref mo), (1, .int x)] := hl
  have hn60 := hI.1.2
  refine lv_aload_n hx hb dX3_lifeAnew_0 rfl (lv_at hl 0 rfl) ?_
  refine lv_aload_n hx hb dX3_lifeAnew_1 rfl (lv_at hl 0 rfl) ?_
  refine lv_iload_n hx hb dX3_lifeAnew_2 rfl (lv_at hl 1 rfl) ?_
  refine zc_i (zr_V (As := [.int x]) (rest := [.ref mo]) ⟨hx, hb, hml, hown, hts⟩ (ct_X3_isPart l g A mo ma X x) zn_X3_isPart (lw_V q1142 q1144 qs16 q48 q1145) rfl (by decide) (by decide) hK (fun _ h => h) hS hX (zx_recv hK hX) rfl hl.1 (Nat.le_of_ble_eq_true rfl) dX3_lifeAnew_3 ⟨Nat.le_refl _, Nat.le_refl _⟩) hS (fun _ h => h) (fun r _ H locs r_1 hX _ _ hS => ?_)
  subst r_1
  refine zl_ifeq (tgt := 13) hx hb dX3_lifeAnew_6 (by decide) (fun c_2 => ?_) (fun c_2 => ?_)
  · refine lv_iconst (v := 1) hx hb dX3_lifeAnew_13 (by decide) ?_
    refine zx_put hx hb hown hts hK hX hS 0 (by decide) rfl q1021 rfl rfl rfl rfl dX3_lifeAnew_14 (fun H locs hX hS => ?_)
    refine lv_aload_n hx hb dX3_lifeAnew_17 rfl (lv_at hl 0 rfl) ?_
    refine zx_get hx hb hown hts hK hX 0 (by decide) q1021 rfl rfl dX3_lifeAnew_18 ?_
    refine zm_topi (y := 1) (by simp [zu]) ?_
    refine lv_if_le (tgt := 28) hx hb dX3_lifeAnew_21 (by decide) (fun c_3 => absurd c_3 (by decide)) (fun _ => ?_)
    refine lv_iconst (v := 0) hx hb dX3_lifeAnew_24 (by decide) ?_
    refine lv_goto (tgt := 34) hx hb dX3_lifeAnew_25 (by decide) ?_
    have e1 : (0 : Int32) = (m_life X x).1 := by first | (simp [m_life, mHd_w, mIn_w, mWs_w, mIs_w, mN_w, mK_w, mBo_w0, zu_zu, c_2]; done) | (simp [m_life, mHd_w, mIn_w, mWs_w, mIs_w, mN_w, mK_w, mBo_w0, zu_zu, c_2, zin]; done)
    have e2 : zu X 0 0 1 = (m_life X x).2 := by first | (simp [m_life, mHd_w, mIn_w, mWs_w, mIs_w, mN_w, mK_w, mBo_w0, zu_zu, c_2]; done) | (simp [m_life, mHd_w, mIn_w, mWs_w, mIs_w, mN_w, mK_w, mBo_w0, zu_zu, c_2, zin]; done)
    rw [e2] at hX
    exact ze_i hx hb hr hlocks hS dX3_lifeAnew_34 (Nat.le_refl _) (Nat.le_refl _) () e1 hX
  · obtain ⟨p, hp, rfl⟩ := mIs_t hI c_2
    have hcp : (nI p).toNatClampNeg = p := nI_clamp (by omega)
    refine lv_iconst (v := 0) hx hb dX3_lifeAnew_9 (by decide) ?_
    refine lv_goto (tgt := 14) hx hb dX3_lifeAnew_10 (by decide) ?_
    refine zx_put hx hb hown hts hK hX hS 0 (by decide) rfl q1021 rfl rfl rfl rfl dX3_lifeAnew_14 (fun H locs hX hS => ?_)
    refine lv_aload_n hx hb dX3_lifeAnew_17 rfl (lv_at hl 0 rfl) ?_
    refine zx_get hx hb hown hts hK hX 0 (by decide) q1021 rfl rfl dX3_lifeAnew_18 ?_
    refine zm_topi (y := 0) (by simp [zu]) ?_
    refine lv_if_le (tgt := 28) hx hb dX3_lifeAnew_21 (by decide) (fun _ => ?_) (fun c_4 => absurd (by decide) c_4)
    refine lv_aload_n hx hb dX3_lifeAnew_28 rfl (lv_at hl 0 rfl) ?_
    refine zx_get hx hb hown hts hK hX 6 (by decide) q1027 rfl rfl dX3_lifeAnew_29 ?_
    refine lv_iload_n hx hb dX3_lifeAnew_32 rfl (lv_at hl 1 rfl) ?_
    refine zx_ld (i := p) hx hb hK hX 6 rfl rfl (n := 60) rfl (by omega) dX3_lifeAnew_33 ?_
    refine zm_topi (y := X 6 p) (by simp [zu]) ?_
    have e1 : (X 6 p : Int32) = (m_life X (nI p)).1 := by first | (simp [m_life, mHd_w, mIn_w, mWs_w, mIs_w, mN_w, mK_w, mBo_w0, zu_zu, hcp, c_2]; done) | (simp [m_life, mHd_w, mIn_w, mWs_w, mIs_w, mN_w, mK_w, mBo_w0, zu_zu, hcp, c_2, zin]; done)
    have e2 : zu X 0 0 0 = (m_life X (nI p)).2 := by first | (simp [m_life, mHd_w, mIn_w, mWs_w, mIs_w, mN_w, mK_w, mBo_w0, zu_zu, hcp, c_2]; done) | (simp [m_life, mHd_w, mIn_w, mWs_w, mIs_w, mN_w, mK_w, mBo_w0, zu_zu, hcp, c_2, zin]; done)
    rw [e2] at hX
    exact ze_i hx hb hr hlocks hS dX3_lifeAnew_34 (Nat.le_refl _) (Nat.le_refl _) () e1 hX
theorem zn_X3_wheel : zN yX3_wheel 2 := by decide +kernel
set_option maxHeartbeats 4000000 in
theorem ct_X3_wheel (l : Launch) (g : zG) (A : Nat → Prop) (mo : Nat) (ma : Nat → Nat) (X : zX) (x : Int32) (w : Int32) (hI : MH X) : Met l yX3_wheel (ws_ yX3_wheel cX3_wheel 3 (some .int)) (zR 4 0 0) (zP [.ref mo, .int x, .int w] g A (zMX g A mo ma X)) (va_Qi (fun rz_ (_ : Unit) => rz_ = (m_wheel X x w).1) (fun (_ : Unit) t => zMX g A mo ma ((m_wheel X x w).2) t.heap) A) 0 0 A := by
  refine zb_met (by decide) (Nat.le_of_ble_eq_true rfl) ?_
  intro p e s m args below meth c ls hx hb hr hml hown hts hlocks hnm hK hX ha hl
  have hown : s.vm.findClass RX3 = some m.cls := hown
  have hS : va_S A s.heap s.heap [] := va_S.rf
  have hl : lv_has ls 3 [(0, .ref mo), (1, .int x), (2, .int w)] := hl
  have hn60 := hI.1.2
  refine lv_aload_n hx hb dX3_wheel_0 rfl (lv_at hl 0 rfl) ?_
  refine lv_aload_n hx hb dX3_wheel_1 rfl (lv_at hl 0 rfl) ?_
  refine lv_iload_n hx hb dX3_wheel_2 rfl (lv_at hl 1 rfl) ?_
  refine lv_iconst (v := 3) hx hb dX3_wheel_3 (by decide) ?_
  refine zc_i (zr_V (As := [.int x, .int 3]) (rest := [.ref mo]) ⟨hx, hb, hml, hown, hts⟩ (ct_X3_kindCode l g A mo ma X x 3 hI) zn_X3_kindCode (lw_V q1185 q1187 qs23 q48 q1188) rfl (by decide) (by decide) hK (fun _ h => h) hS hX (zx_recv hK hX) rfl hl.1 (Nat.le_of_ble_eq_true rfl) dX3_wheel_4 ⟨Nat.le_refl _, Nat.le_refl _⟩) hS (fun _ h => h) (fun r _ H locs r_1 hX _ _ hS => ?_)
  subst r_1
  rcases mKc_c hI x 3 with ⟨k_2, e_3⟩ | ⟨p, hp, rfl, k_2, e_3⟩ | ⟨p, hp, rfl, k_2, e_3⟩
  · refine zm_topi (y := 1) e_3 ?_
    refine zx_put hx hb hown hts hK hX hS 0 (by decide) rfl q1021 rfl rfl rfl rfl dX3_wheel_7 (fun H locs hX hS => ?_)
    refine lv_aload_n hx hb dX3_wheel_10 rfl (lv_at hl 0 rfl) ?_
    refine lv_aload_n hx hb dX3_wheel_11 rfl (lv_at hl 0 rfl) ?_
    refine zx_get hx hb hown hts hK hX 0 (by decide) q1021 rfl rfl dX3_wheel_12 ?_
    refine zm_topi (y := 1) (by simp [zu]) ?_
    refine lv_if_ne (tgt := 31) hx hb dX3_wheel_15 (by decide) (fun _ => ?_) (fun c_4 => absurd c_4 (by decide))
    refine lv_aload_n hx hb dX3_wheel_31 rfl (lv_at hl 0 rfl) ?_
    refine zx_get hx hb hown hts hK hX 0 (by decide) q1021 rfl rfl dX3_wheel_32 ?_
    refine zm_topi (y := 1) (by simp [zu]) ?_
    refine zx_put hx hb hown hts hK hX hS 0 (by decide) rfl q1021 rfl rfl rfl rfl dX3_wheel_35 (fun H locs hX hS => ?_)
    rw [zu_zu] at hX
    refine lv_aload_n hx hb dX3_wheel_38 rfl (lv_at hl 0 rfl) ?_
    refine zx_get hx hb hown hts hK hX 0 (by decide) q1021 rfl rfl dX3_wheel_39 ?_
    refine zm_topi (y := 1) (by simp [zu]) ?_
    refine lv_if_le (tgt := 47) hx hb dX3_wheel_42 (by decide) (fun c_5 => absurd c_5 (by decide)) (fun _ => ?_)
    refine lv_iconst (v := 0) hx hb dX3_wheel_45 (by decide) ?_
    have e1 : (0 : Int32) = (m_wheel X x w).1 := by first | (simp [m_wheel, mHd_w, mIn_w, mWs_w, mIs_w, mN_w, mK_w, mBo_w0, zu_zu, k_2, e_3]; done) | (simp [m_wheel, mHd_w, mIn_w, mWs_w, mIs_w, mN_w, mK_w, mBo_w0, zu_zu, k_2, e_3, zin]; done)
    have e2 : zu X 0 0 1 = (m_wheel X x w).2 := by first | (simp [m_wheel, mHd_w, mIn_w, mWs_w, mIs_w, mN_w, mK_w, mBo_w0, zu_zu, k_2, e_3]; done) | (simp [m_wheel, mHd_w, mIn_w, mWs_w, mIs_w, mN_w, mK_w, mBo_w0, zu_zu, k_2, e_3, zin]; done)
    rw [e2] at hX
    exact ze_i hx hb hr hlocks hS dX3_wheel_46 (Nat.le_refl _) (Nat.le_refl _) () e1 hX
  · refine zm_topi (y := 2) e_3 ?_
    have hcp : (nI p).toNatClampNeg = p := nI_clamp (by omega)
    refine zx_put hx hb hown hts hK hX hS 0 (by decide) rfl q1021 rfl rfl rfl rfl dX3_wheel_7 (fun H locs hX hS => ?_)
    refine lv_aload_n hx hb dX3_wheel_10 rfl (lv_at hl 0 rfl) ?_
    refine lv_aload_n hx hb dX3_wheel_11 rfl (lv_at hl 0 rfl) ?_
    refine zx_get hx hb hown hts hK hX 0 (by decide) q1021 rfl rfl dX3_wheel_12 ?_
    refine zm_topi (y := 2) (by simp [zu]) ?_
    refine lv_if_ne (tgt := 31) hx hb dX3_wheel_15 (by decide) (fun _ => ?_) (fun c_6 => absurd c_6 (by decide))
    refine lv_aload_n hx hb dX3_wheel_31 rfl (lv_at hl 0 rfl) ?_
    refine zx_get hx hb hown hts hK hX 0 (by decide) q1021 rfl rfl dX3_wheel_32 ?_
    refine zm_topi (y := 2) (by simp [zu]) ?_
    refine zx_put hx hb hown hts hK hX hS 0 (by decide) rfl q1021 rfl rfl rfl rfl dX3_wheel_35 (fun H locs hX hS => ?_)
    rw [zu_zu] at hX
    refine lv_aload_n hx hb dX3_wheel_38 rfl (lv_at hl 0 rfl) ?_
    refine zx_get hx hb hown hts hK hX 0 (by decide) q1021 rfl rfl dX3_wheel_39 ?_
    refine zm_topi (y := 2) (by simp [zu]) ?_
    refine lv_if_le (tgt := 47) hx hb dX3_wheel_42 (by decide) (fun c_7 => absurd c_7 (by decide)) (fun _ => ?_)
    refine lv_iconst (v := 0) hx hb dX3_wheel_45 (by decide) ?_
    have e1 : (0 : Int32) = (m_wheel X (nI p) w).1 := by first | (simp [m_wheel, mHd_w, mIn_w, mWs_w, mIs_w, mN_w, mK_w, mBo_w0, zu_zu, hcp, k_2, e_3]; done) | (simp [m_wheel, mHd_w, mIn_w, mWs_w, mIs_w, mN_w, mK_w, mBo_w0, zu_zu, hcp, k_2, e_3, zin]; done)
    have e2 : zu X 0 0 2 = (m_wheel X (nI p) w).2 := by first | (simp [m_wheel, mHd_w, mIn_w, mWs_w, mIs_w, mN_w, mK_w, mBo_w0, zu_zu, hcp, k_2, e_3]; done) | (simp [m_wheel, mHd_w, mIn_w, mWs_w, mIs_w, mN_w, mK_w, mBo_w0, zu_zu, hcp, k_2, e_3, zin]; done)
    rw [e2] at hX
    exact ze_i hx hb hr hlocks hS dX3_wheel_46 (Nat.le_refl _) (Nat.le_refl _) () e1 hX
  · refine zm_topi (y := 0) e_3 ?_
    have hcp : (nI p).toNatClampNeg = p := nI_clamp (by omega)
    refine zx_put hx hb hown hts hK hX hS 0 (by decide) rfl q1021 rfl rfl rfl rfl dX3_wheel_7 (fun H locs hX hS => ?_)
    refine lv_aload_n hx hb dX3_wheel_10 rfl (lv_at hl 0 rfl) ?_
    refine lv_aload_n hx hb dX3_wheel_11 rfl (lv_at hl 0 rfl) ?_
    refine zx_get hx hb hown hts hK hX 0 (by decide) q1021 rfl rfl dX3_wheel_12 ?_
    refine zm_topi (y := 0) (by simp [zu]) ?_
    refine lv_if_ne (tgt := 31) hx hb dX3_wheel_15 (by decide) (fun c_8 => absurd (by decide) c_8) (fun _ => ?_)
    refine lv_iload_n hx hb dX3_wheel_18 rfl (lv_at hl 2 rfl) ?_
    refine lv_iconst (v := 0) hx hb dX3_wheel_19 (by decide) ?_
    refine lv_iconst (v := 2) hx hb dX3_wheel_20 (by decide) ?_
    refine zc_i (zr_S (As := [.int w, .int 0, .int 2]) (rest := [.ref mo]) ⟨hx, hb, hml, hown, hts⟩ (ct_X3_in l g A (zMX g A mo ma (zu X 0 0 0)) w 0 2) zn_X3_in (lw_S q1130 q1131 q48 q1132) (by decide) (by decide) hK (fun _ h => h) hS hX rfl hl.1 (Nat.le_of_ble_eq_true rfl) dX3_wheel_21 ⟨Nat.le_refl _, Nat.le_refl _⟩) hS (fun _ h => h) (fun r _ H locs r_9 hX _ _ hS => ?_)
    subst r_9
    refine zl_ifne (tgt := 31) hx hb dX3_wheel_24 (by decide) (fun c_10 => ?_) (fun c_10 => ?_)
    · refine lv_aload_n hx hb dX3_wheel_31 rfl (lv_at hl 0 rfl) ?_
      refine zx_get hx hb hown hts hK hX 0 (by decide) q1021 rfl rfl dX3_wheel_32 ?_
      refine zm_topi (y := 0) (by simp [zu]) ?_
      refine zx_put hx hb hown hts hK hX hS 0 (by decide) rfl q1021 rfl rfl rfl rfl dX3_wheel_35 (fun H locs hX hS => ?_)
      rw [zu_zu] at hX
      refine lv_aload_n hx hb dX3_wheel_38 rfl (lv_at hl 0 rfl) ?_
      refine zx_get hx hb hown hts hK hX 0 (by decide) q1021 rfl rfl dX3_wheel_39 ?_
      refine zm_topi (y := 0) (by simp [zu]) ?_
      refine lv_if_le (tgt := 47) hx hb dX3_wheel_42 (by decide) (fun _ => ?_) (fun c_11 => absurd (by decide) c_11)
      refine lv_iload_n hx hb dX3_wheel_47 rfl (lv_at hl 2 rfl) ?_
      refine lv_if_ne (tgt := 60) hx hb dX3_wheel_48 (by decide) (fun c_12 => ?_) (fun c_12 => ?_)
      · refine lv_iload_n hx hb dX3_wheel_60 rfl (lv_at hl 2 rfl) ?_
        refine lv_iconst (v := 1) hx hb dX3_wheel_61 (by decide) ?_
        refine lv_icmp_ne (tgt := 74) hx hb dX3_wheel_62 (by decide) (fun c_13 => ?_) (fun c_13 => ?_)
        · refine lv_aload_n hx hb dX3_wheel_74 rfl (lv_at hl 0 rfl) ?_
          refine zx_get hx hb hown hts hK hX 17 (by decide) q1038 rfl rfl dX3_wheel_75 ?_
          refine lv_iload_n hx hb dX3_wheel_78 rfl (lv_at hl 1 rfl) ?_
          refine zx_ldz (i := p) hx hb hK hX 17 rfl rfl (n := 60) rfl (by omega) dX3_wheel_79 ?_
          refine zm_topi (y := X 17 p) (by simp [zu]) ?_
          refine lv_if_eq (tgt := 92) hx hb dX3_wheel_80 (by decide) (fun c_14 => ?_) (fun c_14 => ?_)
          · refine lv_iconst (v := (-1)) hx hb dX3_wheel_92 (by decide) ?_
            have e1 : ((-1) : Int32) = (m_wheel X (nI p) w).1 := by first | (simp [m_wheel, mHd_w, mIn_w, mWs_w, mIs_w, mN_w, mK_w, mBo_w0, zu_zu, hcp, k_2, e_3, c_10, c_12, c_13, c_14]; done) | (simp [m_wheel, mHd_w, mIn_w, mWs_w, mIs_w, mN_w, mK_w, mBo_w0, zu_zu, hcp, k_2, e_3, c_10, c_12, c_13, c_14, zin]; done)
            have e2 : zu X 0 0 0 = (m_wheel X (nI p) w).2 := by first | (simp [m_wheel, mHd_w, mIn_w, mWs_w, mIs_w, mN_w, mK_w, mBo_w0, zu_zu, hcp, k_2, e_3, c_10, c_12, c_13, c_14]; done) | (simp [m_wheel, mHd_w, mIn_w, mWs_w, mIs_w, mN_w, mK_w, mBo_w0, zu_zu, hcp, k_2, e_3, c_10, c_12, c_13, c_14, zin]; done)
            rw [e2] at hX
            exact ze_i hx hb hr hlocks hS dX3_wheel_93 (Nat.le_refl _) (Nat.le_refl _) () e1 hX
          · refine lv_aload_n hx hb dX3_wheel_83 rfl (lv_at hl 0 rfl) ?_
            refine zx_get hx hb hown hts hK hX 16 (by decide) q1037 rfl rfl dX3_wheel_84 ?_
            refine lv_iload_n hx hb dX3_wheel_87 rfl (lv_at hl 1 rfl) ?_
            refine zx_ld (i := p) hx hb hK hX 16 rfl rfl (n := 60) rfl (by omega) dX3_wheel_88 ?_
            refine zm_topi (y := X 16 p) (by simp [zu]) ?_
            refine lv_goto (tgt := 93) hx hb dX3_wheel_89 (by decide) ?_
            have e1 : (X 16 p : Int32) = (m_wheel X (nI p) w).1 := by first | (simp [m_wheel, mHd_w, mIn_w, mWs_w, mIs_w, mN_w, mK_w, mBo_w0, zu_zu, hcp, k_2, e_3, c_10, c_12, c_13, c_14]; done) | (simp [m_wheel, mHd_w, mIn_w, mWs_w, mIs_w, mN_w, mK_w, mBo_w0, zu_zu, hcp, k_2, e_3, c_10, c_12, c_13, c_14, zin]; done)
            have e2 : zu X 0 0 0 = (m_wheel X (nI p) w).2 := by first | (simp [m_wheel, mHd_w, mIn_w, mWs_w, mIs_w, mN_w, mK_w, mBo_w0, zu_zu, hcp, k_2, e_3, c_10, c_12, c_13, c_14]; done) | (simp [m_wheel, mHd_w, mIn_w, mWs_w, mIs_w, mN_w, mK_w, mBo_w0, zu_zu, hcp, k_2, e_3, c_10, c_12, c_13, c_14, zin]; done)
            rw [e2] at hX
            exact ze_i hx hb hr hlocks hS dX3_wheel_93 (Nat.le_refl _) (Nat.le_refl _) () e1 hX
        · refine lv_aload_n hx hb dX3_wheel_65 rfl (lv_at hl 0 rfl) ?_
          refine zx_get hx hb hown hts hK hX 14 (by decide) q1035 rfl rfl dX3_wheel_66 ?_
          refine lv_iload_n hx hb dX3_wheel_69 rfl (lv_at hl 1 rfl) ?_
          refine zx_ld (i := p) hx hb hK hX 14 rfl rfl (n := 60) rfl (by omega) dX3_wheel_70 ?_
          refine zm_topi (y := X 14 p) (by simp [zu]) ?_
          refine lv_goto (tgt := 93) hx hb dX3_wheel_71 (by decide) ?_
          have e1 : (X 14 p : Int32) = (m_wheel X (nI p) w).1 := by first | (simp [m_wheel, mHd_w, mIn_w, mWs_w, mIs_w, mN_w, mK_w, mBo_w0, zu_zu, hcp, k_2, e_3, c_10, c_12, c_13]; done) | (simp [m_wheel, mHd_w, mIn_w, mWs_w, mIs_w, mN_w, mK_w, mBo_w0, zu_zu, hcp, k_2, e_3, c_10, c_12, c_13, zin]; done)
          have e2 : zu X 0 0 0 = (m_wheel X (nI p) w).2 := by first | (simp [m_wheel, mHd_w, mIn_w, mWs_w, mIs_w, mN_w, mK_w, mBo_w0, zu_zu, hcp, k_2, e_3, c_10, c_12, c_13]; done) | (simp [m_wheel, mHd_w, mIn_w, mWs_w, mIs_w, mN_w, mK_w, mBo_w0, zu_zu, hcp, k_2, e_3, c_10, c_12, c_13, zin]; done)
          rw [e2] at hX
          exact ze_i hx hb hr hlocks hS dX3_wheel_93 (Nat.le_refl _) (Nat.le_refl _) () e1 hX
      · refine lv_aload_n hx hb dX3_wheel_51 rfl (lv_at hl 0 rfl) ?_
        refine zx_get hx hb hown hts hK hX 13 (by decide) q1034 rfl rfl dX3_wheel_52 ?_
        refine lv_iload_n hx hb dX3_wheel_55 rfl (lv_at hl 1 rfl) ?_
        refine zx_ld (i := p) hx hb hK hX 13 rfl rfl (n := 60) rfl (by omega) dX3_wheel_56 ?_
        refine zm_topi (y := X 13 p) (by simp [zu]) ?_
        refine lv_goto (tgt := 93) hx hb dX3_wheel_57 (by decide) ?_
        have e1 : (X 13 p : Int32) = (m_wheel X (nI p) w).1 := by first | (simp [m_wheel, mHd_w, mIn_w, mWs_w, mIs_w, mN_w, mK_w, mBo_w0, zu_zu, hcp, k_2, e_3, c_10, c_12]; done) | (simp [m_wheel, mHd_w, mIn_w, mWs_w, mIs_w, mN_w, mK_w, mBo_w0, zu_zu, hcp, k_2, e_3, c_10, c_12, zin]; done)
        have e2 : zu X 0 0 0 = (m_wheel X (nI p) w).2 := by first | (simp [m_wheel, mHd_w, mIn_w, mWs_w, mIs_w, mN_w, mK_w, mBo_w0, zu_zu, hcp, k_2, e_3, c_10, c_12]; done) | (simp [m_wheel, mHd_w, mIn_w, mWs_w, mIs_w, mN_w, mK_w, mBo_w0, zu_zu, hcp, k_2, e_3, c_10, c_12, zin]; done)
        rw [e2] at hX
        exact ze_i hx hb hr hlocks hS dX3_wheel_93 (Nat.le_refl _) (Nat.le_refl _) () e1 hX
    · refine lv_iconst (v := 2) hx hb dX3_wheel_27 (by decide) ?_
      refine lv_goto (tgt := 35) hx hb dX3_wheel_28 (by decide) ?_
      refine zx_put hx hb hown hts hK hX hS 0 (by decide) rfl q1021 rfl rfl rfl rfl dX3_wheel_35 (fun H locs hX hS => ?_)
      rw [zu_zu] at hX
      refine lv_aload_n hx hb dX3_wheel_38 rfl (lv_at hl 0 rfl) ?_
      refine zx_get hx hb hown hts hK hX 0 (by decide) q1021 rfl rfl dX3_wheel_39 ?_
      refine zm_topi (y := 2) (by simp [zu]) ?_
      refine lv_if_le (tgt := 47) hx hb dX3_wheel_42 (by decide) (fun c_15 => absurd c_15 (by decide)) (fun _ => ?_)
      refine lv_iconst (v := 0) hx hb dX3_wheel_45 (by decide) ?_
      have e1 : (0 : Int32) = (m_wheel X (nI p) w).1 := by first | (simp [m_wheel, mHd_w, mIn_w, mWs_w, mIs_w, mN_w, mK_w, mBo_w0, zu_zu, hcp, k_2, e_3, c_10]; done) | (simp [m_wheel, mHd_w, mIn_w, mWs_w, mIs_w, mN_w, mK_w, mBo_w0, zu_zu, hcp, k_2, e_3, c_10, zin]; done)
      have e2 : zu X 0 0 2 = (m_wheel X (nI p) w).2 := by first | (simp [m_wheel, mHd_w, mIn_w, mWs_w, mIs_w, mN_w, mK_w, mBo_w0, zu_zu, hcp, k_2, e_3, c_10]; done) | (simp [m_wheel, mHd_w, mIn_w, mWs_w, mIs_w, mN_w, mK_w, mBo_w0, zu_zu, hcp, k_2, e_3, c_10, zin]; done)
      rw [e2] at hX
      exact ze_i hx hb hr hlocks hS dX3_wheel_46 (Nat.le_refl _) (Nat.le_refl _) () e1 hX
theorem zn_X3_foretell : zN yX3_foretell 3 := by decide +kernel
set_option maxHeartbeats 4000000 in
theorem ct_X3_foretell (l : Launch) (g : zG) (A : Nat → Prop) (mo : Nat) (ma : Nat → Nat) (X : zX) (x : Int32) (km : Int32) (se : Int32) (hI : MH X) : Met l yX3_foretell (ws_ yX3_foretell cX3_foretell 5 (some .int)) (zR 4 0 0) (zP [.ref mo, .int x, .int km, .int se] g A (zMX g A mo ma X)) (va_Qi (fun rz_ (_ : Unit) => rz_ = (m_foretell X x km se).1) (fun (_ : Unit) t => zMX g A mo ma ((m_foretell X x km se).2) t.heap) A) 0 0 A := by
  refine zb_met (by decide) (Nat.le_of_ble_eq_true rfl) ?_
  intro p e s m args below meth c ls hx hb hr hml hown hts hlocks hnm hK hX ha hl
  have hown : s.vm.findClass RX3 = some m.cls := hown
  have hS : va_S A s.heap s.heap [] := va_S.rf
  have hl : lv_has ls 5 [(0, .ref mo), (1, .int x), (2, .int km), (3, .int se)] := hl
  have hn60 := hI.1.2
  refine lv_aload_n hx hb dX3_foretell_0 rfl (lv_at hl 0 rfl) ?_
  refine lv_aload_n hx hb dX3_foretell_1 rfl (lv_at hl 0 rfl) ?_
  refine lv_iload_n hx hb dX3_foretell_2 rfl (lv_at hl 1 rfl) ?_
  refine lv_iconst (v := 3) hx hb dX3_foretell_3 (by decide) ?_
  refine zc_i (zr_V (As := [.int x, .int 3]) (rest := [.ref mo]) ⟨hx, hb, hml, hown, hts⟩ (ct_X3_kindCode l g A mo ma X x 3 hI) zn_X3_kindCode (lw_V q1185 q1187 qs23 q48 q1188) rfl (by decide) (by decide) hK (fun _ h => h) hS hX (zx_recv hK hX) rfl hl.1 (Nat.le_of_ble_eq_true rfl) dX3_foretell_4 ⟨Nat.le_refl _, Nat.le_refl _⟩) hS (fun _ h => h) (fun r _ H locs r_1 hX _ _ hS => ?_)
  subst r_1
  rcases mKc_c hI x 3 with ⟨k_2, e_3⟩ | ⟨p, hp, rfl, k_2, e_3⟩ | ⟨p, hp, rfl, k_2, e_3⟩
  · refine zm_topi (y := 1) e_3 ?_
    refine zx_put hx hb hown hts hK hX hS 0 (by decide) rfl q1021 rfl rfl rfl rfl dX3_foretell_7 (fun H locs hX hS => ?_)
    refine lv_aload_n hx hb dX3_foretell_10 rfl (lv_at hl 0 rfl) ?_
    refine lv_aload_n hx hb dX3_foretell_11 rfl (lv_at hl 0 rfl) ?_
    refine zx_get hx hb hown hts hK hX 0 (by decide) q1021 rfl rfl dX3_foretell_12 ?_
    refine zm_topi (y := 1) (by simp [zu]) ?_
    refine lv_if_ne (tgt := 42) hx hb dX3_foretell_15 (by decide) (fun _ => ?_) (fun c_4 => absurd c_4 (by decide))
    refine lv_aload_n hx hb dX3_foretell_42 rfl (lv_at hl 0 rfl) ?_
    refine zx_get hx hb hown hts hK hX 0 (by decide) q1021 rfl rfl dX3_foretell_43 ?_
    refine zm_topi (y := 1) (by simp [zu]) ?_
    refine zx_put hx hb hown hts hK hX hS 0 (by decide) rfl q1021 rfl rfl rfl rfl dX3_foretell_46 (fun H locs hX hS => ?_)
    rw [zu_zu] at hX
    refine lv_aload_n hx hb dX3_foretell_49 rfl (lv_at hl 0 rfl) ?_
    refine zx_get hx hb hown hts hK hX 0 (by decide) q1021 rfl rfl dX3_foretell_50 ?_
    refine zm_topi (y := 1) (by simp [zu]) ?_
    refine lv_if_le (tgt := 58) hx hb dX3_foretell_53 (by decide) (fun c_5 => absurd c_5 (by decide)) (fun _ => ?_)
    refine lv_iconst (v := 0) hx hb dX3_foretell_56 (by decide) ?_
    have e1 : (0 : Int32) = (m_foretell X x km se).1 := by first | (simp [m_foretell, mHd_w, mIn_w, mWs_w, mIs_w, mN_w, mK_w, mBo_w0, zu_zu, k_2, e_3]; done) | (simp [m_foretell, mHd_w, mIn_w, mWs_w, mIs_w, mN_w, mK_w, mBo_w0, zu_zu, k_2, e_3, zin]; done)
    have e2 : zu X 0 0 1 = (m_foretell X x km se).2 := by first | (simp [m_foretell, mHd_w, mIn_w, mWs_w, mIs_w, mN_w, mK_w, mBo_w0, zu_zu, k_2, e_3]; done) | (simp [m_foretell, mHd_w, mIn_w, mWs_w, mIs_w, mN_w, mK_w, mBo_w0, zu_zu, k_2, e_3, zin]; done)
    rw [e2] at hX
    exact ze_i hx hb hr hlocks hS dX3_foretell_57 (Nat.le_refl _) (Nat.le_refl _) () e1 hX
  · refine zm_topi (y := 2) e_3 ?_
    have hcp : (nI p).toNatClampNeg = p := nI_clamp (by omega)
    refine zx_put hx hb hown hts hK hX hS 0 (by decide) rfl q1021 rfl rfl rfl rfl dX3_foretell_7 (fun H locs hX hS => ?_)
    refine lv_aload_n hx hb dX3_foretell_10 rfl (lv_at hl 0 rfl) ?_
    refine lv_aload_n hx hb dX3_foretell_11 rfl (lv_at hl 0 rfl) ?_
    refine zx_get hx hb hown hts hK hX 0 (by decide) q1021 rfl rfl dX3_foretell_12 ?_
    refine zm_topi (y := 2) (by simp [zu]) ?_
    refine lv_if_ne (tgt := 42) hx hb dX3_foretell_15 (by decide) (fun _ => ?_) (fun c_6 => absurd c_6 (by decide))
    refine lv_aload_n hx hb dX3_foretell_42 rfl (lv_at hl 0 rfl) ?_
    refine zx_get hx hb hown hts hK hX 0 (by decide) q1021 rfl rfl dX3_foretell_43 ?_
    refine zm_topi (y := 2) (by simp [zu]) ?_
    refine zx_put hx hb hown hts hK hX hS 0 (by decide) rfl q1021 rfl rfl rfl rfl dX3_foretell_46 (fun H locs hX hS => ?_)
    rw [zu_zu] at hX
    refine lv_aload_n hx hb dX3_foretell_49 rfl (lv_at hl 0 rfl) ?_
    refine zx_get hx hb hown hts hK hX 0 (by decide) q1021 rfl rfl dX3_foretell_50 ?_
    refine zm_topi (y := 2) (by simp [zu]) ?_
    refine lv_if_le (tgt := 58) hx hb dX3_foretell_53 (by decide) (fun c_7 => absurd c_7 (by decide)) (fun _ => ?_)
    refine lv_iconst (v := 0) hx hb dX3_foretell_56 (by decide) ?_
    have e1 : (0 : Int32) = (m_foretell X (nI p) km se).1 := by first | (simp [m_foretell, mHd_w, mIn_w, mWs_w, mIs_w, mN_w, mK_w, mBo_w0, zu_zu, hcp, k_2, e_3]; done) | (simp [m_foretell, mHd_w, mIn_w, mWs_w, mIs_w, mN_w, mK_w, mBo_w0, zu_zu, hcp, k_2, e_3, zin]; done)
    have e2 : zu X 0 0 2 = (m_foretell X (nI p) km se).2 := by first | (simp [m_foretell, mHd_w, mIn_w, mWs_w, mIs_w, mN_w, mK_w, mBo_w0, zu_zu, hcp, k_2, e_3]; done) | (simp [m_foretell, mHd_w, mIn_w, mWs_w, mIs_w, mN_w, mK_w, mBo_w0, zu_zu, hcp, k_2, e_3, zin]; done)
    rw [e2] at hX
    exact ze_i hx hb hr hlocks hS dX3_foretell_57 (Nat.le_refl _) (Nat.le_refl _) () e1 hX
  · refine zm_topi (y := 0) e_3 ?_
    have hcp : (nI p).toNatClampNeg = p := nI_clamp (by omega)
    refine zx_put hx hb hown hts hK hX hS 0 (by decide) rfl q1021 rfl rfl rfl rfl dX3_foretell_7 (fun H locs hX hS => ?_)
    refine lv_aload_n hx hb dX3_foretell_10 rfl (lv_at hl 0 rfl) ?_
    refine lv_aload_n hx hb dX3_foretell_11 rfl (lv_at hl 0 rfl) ?_
    refine zx_get hx hb hown hts hK hX 0 (by decide) q1021 rfl rfl dX3_foretell_12 ?_
    refine zm_topi (y := 0) (by simp [zu]) ?_
    refine lv_if_ne (tgt := 42) hx hb dX3_foretell_15 (by decide) (fun c_8 => absurd (by decide) c_8) (fun _ => ?_)
    refine lv_iload_n hx hb dX3_foretell_18 rfl (lv_at hl 2 rfl) ?_
    refine lv_iconst (v := 1) hx hb dX3_foretell_19 (by decide) ?_
    refine lv_sipush (v := 2000) hx hb dX3_foretell_20 (by decide) ?_
    refine zc_i (zr_S (As := [.int km, .int 1, .int 2000]) (rest := [.ref mo]) ⟨hx, hb, hml, hown, hts⟩ (ct_X3_in l g A (zMX g A mo ma (zu X 0 0 0)) km 1 2000) zn_X3_in (lw_S q1130 q1131 q48 q1132) (by decide) (by decide) hK (fun _ h => h) hS hX rfl hl.1 (Nat.le_of_ble_eq_true rfl) dX3_foretell_23 ⟨Nat.le_refl _, Nat.le_refl _⟩) hS (fun _ h => h) (fun r _ H locs r_9 hX _ _ hS => ?_)
    subst r_9
    refine zl_ifeq (tgt := 38) hx hb dX3_foretell_26 (by decide) (fun c_10 => ?_) (fun c_10 => ?_)
    · refine lv_iconst (v := 2) hx hb dX3_foretell_38 (by decide) ?_
      refine lv_goto (tgt := 46) hx hb dX3_foretell_39 (by decide) ?_
      refine zx_put hx hb hown hts hK hX hS 0 (by decide) rfl q1021 rfl rfl rfl rfl dX3_foretell_46 (fun H locs hX hS => ?_)
      rw [zu_zu] at hX
      refine lv_aload_n hx hb dX3_foretell_49 rfl (lv_at hl 0 rfl) ?_
      refine zx_get hx hb hown hts hK hX 0 (by decide) q1021 rfl rfl dX3_foretell_50 ?_
      refine zm_topi (y := 2) (by simp [zu]) ?_
      refine lv_if_le (tgt := 58) hx hb dX3_foretell_53 (by decide) (fun c_11 => absurd c_11 (by decide)) (fun _ => ?_)
      refine lv_iconst (v := 0) hx hb dX3_foretell_56 (by decide) ?_
      have e1 : (0 : Int32) = (m_foretell X (nI p) km se).1 := by first | (simp [m_foretell, mHd_w, mIn_w, mWs_w, mIs_w, mN_w, mK_w, mBo_w0, zu_zu, hcp, k_2, e_3, c_10]; done) | (simp [m_foretell, mHd_w, mIn_w, mWs_w, mIs_w, mN_w, mK_w, mBo_w0, zu_zu, hcp, k_2, e_3, c_10, zin]; done)
      have e2 : zu X 0 0 2 = (m_foretell X (nI p) km se).2 := by first | (simp [m_foretell, mHd_w, mIn_w, mWs_w, mIs_w, mN_w, mK_w, mBo_w0, zu_zu, hcp, k_2, e_3, c_10]; done) | (simp [m_foretell, mHd_w, mIn_w, mWs_w, mIs_w, mN_w, mK_w, mBo_w0, zu_zu, hcp, k_2, e_3, c_10, zin]; done)
      rw [e2] at hX
      exact ze_i hx hb hr hlocks hS dX3_foretell_57 (Nat.le_refl _) (Nat.le_refl _) () e1 hX
    · refine lv_iload_n hx hb dX3_foretell_29 rfl (lv_at hl 3 rfl) ?_
      refine lv_iconst (v := 0) hx hb dX3_foretell_30 (by decide) ?_
      refine lv_iconst (v := 3) hx hb dX3_foretell_31 (by decide) ?_
      refine zc_i (zr_S (As := [.int se, .int 0, .int 3]) (rest := [.ref mo]) ⟨hx, hb, hml, hown, hts⟩ (ct_X3_in l g A (zMX g A mo ma (zu X 0 0 0)) se 0 3) zn_X3_in (lw_S q1130 q1131 q48 q1132) (by decide) (by decide) hK (fun _ h => h) hS hX rfl hl.1 (Nat.le_of_ble_eq_true rfl) dX3_foretell_32 ⟨Nat.le_refl _, Nat.le_refl _⟩) hS (fun _ h => h) (fun r _ H locs r_12 hX _ _ hS => ?_)
      subst r_12
      refine zl_ifne (tgt := 42) hx hb dX3_foretell_35 (by decide) (fun c_13 => ?_) (fun c_13 => ?_)
      · refine lv_aload_n hx hb dX3_foretell_42 rfl (lv_at hl 0 rfl) ?_
        refine zx_get hx hb hown hts hK hX 0 (by decide) q1021 rfl rfl dX3_foretell_43 ?_
        refine zm_topi (y := 0) (by simp [zu]) ?_
        refine zx_put hx hb hown hts hK hX hS 0 (by decide) rfl q1021 rfl rfl rfl rfl dX3_foretell_46 (fun H locs hX hS => ?_)
        rw [zu_zu] at hX
        refine lv_aload_n hx hb dX3_foretell_49 rfl (lv_at hl 0 rfl) ?_
        refine zx_get hx hb hown hts hK hX 0 (by decide) q1021 rfl rfl dX3_foretell_50 ?_
        refine zm_topi (y := 0) (by simp [zu]) ?_
        refine lv_if_le (tgt := 58) hx hb dX3_foretell_53 (by decide) (fun _ => ?_) (fun c_14 => absurd (by decide) c_14)
        refine lv_aload_n hx hb dX3_foretell_58 rfl (lv_at hl 0 rfl) ?_
        refine zx_get hx hb hown hts hK hX 16 (by decide) q1037 rfl rfl dX3_foretell_59 ?_
        refine lv_iload_n hx hb dX3_foretell_62 rfl (lv_at hl 1 rfl) ?_
        refine zx_ld (i := p) hx hb hK hX 16 rfl rfl (n := 60) rfl (by omega) dX3_foretell_63 ?_
        refine zm_topi (y := X 16 p) (by simp [zu]) ?_
        refine lv_sipush (v := 250) hx hb dX3_foretell_64 (by decide) ?_
        refine lv_isub hx hb dX3_foretell_67 ?_
        refine lv_istore (lv' := [(4, .int ((X 16 p) - 250)), (0, .ref mo), (1, .int (nI p)), (2, .int km), (3, .int se)]) hx hb dX3_foretell_68 hl (by decide) rfl (fun ls hl => ?_)
        refine lv_aload_n hx hb dX3_foretell_70 rfl (lv_at hl 1 rfl) ?_
        refine zx_get hx hb hown hts hK hX 17 (by decide) q1038 rfl rfl dX3_foretell_71 ?_
        refine lv_iload_n hx hb dX3_foretell_74 rfl (lv_at hl 2 rfl) ?_
        refine zx_ldz (i := p) hx hb hK hX 17 rfl rfl (n := 60) rfl (by omega) dX3_foretell_75 ?_
        refine zm_topi (y := X 17 p) (by simp [zu]) ?_
        refine lv_if_ne (tgt := 83) hx hb dX3_foretell_76 (by decide) (fun c_15 => ?_) (fun c_15 => ?_)
        · refine lv_iload hx hb dX3_foretell_83 (lv_at hl 0 rfl) ?_
          refine lv_if_gt (tgt := 92) hx hb dX3_foretell_85 (by decide) (fun c_16 => ?_) (fun c_16 => ?_)
          · refine lv_iload hx hb dX3_foretell_92 (lv_at hl 0 rfl) ?_
            refine lv_sipush (v := 200) hx hb dX3_foretell_94 (by decide) ?_
            refine lv_imul hx hb dX3_foretell_97 ?_
            refine lv_iload_n hx hb dX3_foretell_98 rfl (lv_at hl 3 rfl) ?_
            refine lv_iload_n hx hb dX3_foretell_99 rfl (lv_at hl 4 rfl) ?_
            refine zc_i (zr_S (As := [.int se]) (rest := [.int km, .int (((X 16 p) - 250) * 200)]) ⟨hx, hb, hml, hown, hts⟩ (ct_X3_factor l g A (zMX g A mo ma (zu X 0 0 0)) se) zn_X3_factor (lw_S q1197 q1198 q48 q1199) (by decide) (by decide) hK (fun _ h => h) hS hX rfl hl.1 (Nat.le_of_ble_eq_true rfl) dX3_foretell_100 ⟨Nat.le_refl _, Nat.le_refl _⟩) hS (fun _ h => h) (fun r _ H locs r_17 hX _ _ hS => ?_)
            subst r_17
            refine lv_imul hx hb dX3_foretell_103 ?_
            refine lv_idiv hx hb dX3_foretell_104 (mFa_nz c_10 c_13) ?_
            have e1 : ((((X 16 p) - 250) * 200) / (km * (mFa se)) : Int32) = (m_foretell X (nI p) km se).1 := by first | (simp [m_foretell, mHd_w, mIn_w, mWs_w, mIs_w, mN_w, mK_w, mBo_w0, zu_zu, hcp, k_2, e_3, c_10, c_13, c_15, c_16]; done) | (simp [m_foretell, mHd_w, mIn_w, mWs_w, mIs_w, mN_w, mK_w, mBo_w0, zu_zu, hcp, k_2, e_3, c_10, c_13, c_15, c_16, zin]; done)
            have e2 : zu X 0 0 0 = (m_foretell X (nI p) km se).2 := by first | (simp [m_foretell, mHd_w, mIn_w, mWs_w, mIs_w, mN_w, mK_w, mBo_w0, zu_zu, hcp, k_2, e_3, c_10, c_13, c_15, c_16]; done) | (simp [m_foretell, mHd_w, mIn_w, mWs_w, mIs_w, mN_w, mK_w, mBo_w0, zu_zu, hcp, k_2, e_3, c_10, c_13, c_15, c_16, zin]; done)
            rw [e2] at hX
            exact ze_i hx hb hr hlocks hS dX3_foretell_105 (Nat.le_refl _) (Nat.le_refl _) () e1 hX
          · refine lv_iconst (v := 0) hx hb dX3_foretell_88 (by decide) ?_
            refine lv_goto (tgt := 105) hx hb dX3_foretell_89 (by decide) ?_
            have e1 : (0 : Int32) = (m_foretell X (nI p) km se).1 := by first | (simp [m_foretell, mHd_w, mIn_w, mWs_w, mIs_w, mN_w, mK_w, mBo_w0, zu_zu, hcp, k_2, e_3, c_10, c_13, c_15, c_16]; done) | (simp [m_foretell, mHd_w, mIn_w, mWs_w, mIs_w, mN_w, mK_w, mBo_w0, zu_zu, hcp, k_2, e_3, c_10, c_13, c_15, c_16, zin]; done)
            have e2 : zu X 0 0 0 = (m_foretell X (nI p) km se).2 := by first | (simp [m_foretell, mHd_w, mIn_w, mWs_w, mIs_w, mN_w, mK_w, mBo_w0, zu_zu, hcp, k_2, e_3, c_10, c_13, c_15, c_16]; done) | (simp [m_foretell, mHd_w, mIn_w, mWs_w, mIs_w, mN_w, mK_w, mBo_w0, zu_zu, hcp, k_2, e_3, c_10, c_13, c_15, c_16, zin]; done)
            rw [e2] at hX
            exact ze_i hx hb hr hlocks hS dX3_foretell_105 (Nat.le_refl _) (Nat.le_refl _) () e1 hX
        · refine lv_iconst (v := (-1)) hx hb dX3_foretell_79 (by decide) ?_
          refine lv_goto (tgt := 105) hx hb dX3_foretell_80 (by decide) ?_
          have e1 : ((-1) : Int32) = (m_foretell X (nI p) km se).1 := by first | (simp [m_foretell, mHd_w, mIn_w, mWs_w, mIs_w, mN_w, mK_w, mBo_w0, zu_zu, hcp, k_2, e_3, c_10, c_13, c_15]; done) | (simp [m_foretell, mHd_w, mIn_w, mWs_w, mIs_w, mN_w, mK_w, mBo_w0, zu_zu, hcp, k_2, e_3, c_10, c_13, c_15, zin]; done)
          have e2 : zu X 0 0 0 = (m_foretell X (nI p) km se).2 := by first | (simp [m_foretell, mHd_w, mIn_w, mWs_w, mIs_w, mN_w, mK_w, mBo_w0, zu_zu, hcp, k_2, e_3, c_10, c_13, c_15]; done) | (simp [m_foretell, mHd_w, mIn_w, mWs_w, mIs_w, mN_w, mK_w, mBo_w0, zu_zu, hcp, k_2, e_3, c_10, c_13, c_15, zin]; done)
          rw [e2] at hX
          exact ze_i hx hb hr hlocks hS dX3_foretell_105 (Nat.le_refl _) (Nat.le_refl _) () e1 hX
      · refine lv_iconst (v := 2) hx hb dX3_foretell_38 (by decide) ?_
        refine lv_goto (tgt := 46) hx hb dX3_foretell_39 (by decide) ?_
        refine zx_put hx hb hown hts hK hX hS 0 (by decide) rfl q1021 rfl rfl rfl rfl dX3_foretell_46 (fun H locs hX hS => ?_)
        rw [zu_zu] at hX
        refine lv_aload_n hx hb dX3_foretell_49 rfl (lv_at hl 0 rfl) ?_
        refine zx_get hx hb hown hts hK hX 0 (by decide) q1021 rfl rfl dX3_foretell_50 ?_
        refine zm_topi (y := 2) (by simp [zu]) ?_
        refine lv_if_le (tgt := 58) hx hb dX3_foretell_53 (by decide) (fun c_18 => absurd c_18 (by decide)) (fun _ => ?_)
        refine lv_iconst (v := 0) hx hb dX3_foretell_56 (by decide) ?_
        have e1 : (0 : Int32) = (m_foretell X (nI p) km se).1 := by first | (simp [m_foretell, mHd_w, mIn_w, mWs_w, mIs_w, mN_w, mK_w, mBo_w0, zu_zu, hcp, k_2, e_3, c_10, c_13]; done) | (simp [m_foretell, mHd_w, mIn_w, mWs_w, mIs_w, mN_w, mK_w, mBo_w0, zu_zu, hcp, k_2, e_3, c_10, c_13, zin]; done)
        have e2 : zu X 0 0 2 = (m_foretell X (nI p) km se).2 := by first | (simp [m_foretell, mHd_w, mIn_w, mWs_w, mIs_w, mN_w, mK_w, mBo_w0, zu_zu, hcp, k_2, e_3, c_10, c_13]; done) | (simp [m_foretell, mHd_w, mIn_w, mWs_w, mIs_w, mN_w, mK_w, mBo_w0, zu_zu, hcp, k_2, e_3, c_10, c_13, zin]; done)
        rw [e2] at hX
        exact ze_i hx hb hr hlocks hS dX3_foretell_57 (Nat.le_refl _) (Nat.le_refl _) () e1 hX
theorem zn_X3_bars : zN yX3_bars 1 := by decide +kernel
set_option maxHeartbeats 4000000 in
theorem ct_X3_bars (l : Launch) (g : zG) (A : Nat → Prop) (mo : Nat) (ma : Nat → Nat) (X : zX) (x : Int32) (hI : MH X) (hz9 : ∀ p, X 9 p = 0 ∨ X 9 p = 1) (hz10 : ∀ p, X 10 p = 0 ∨ X 10 p = 1) : Met l yX3_bars (ws_ yX3_bars cX3_bars 2 (some .int)) (zR 5 0 0) (zP [.ref mo, .int x] g A (zMX g A mo ma X)) (va_Qi (fun rz_ (_ : Unit) => rz_ = (m_bars X x).1) (fun (_ : Unit) t => zMX g A mo ma ((m_bars X x).2) t.heap) A) 0 0 A := by
  refine zb_met (by decide) (Nat.le_of_ble_eq_true rfl) ?_
  intro p e s m args below meth c ls hx hb hr hml hown hts hlocks hnm hK hX ha hl
  have hown : s.vm.findClass RX3 = some m.cls := hown
  have hS : va_S A s.heap s.heap [] := va_S.rf
  have hl : lv_has ls 2 [(0, .ref mo), (1, .int x)] := hl
  have hn60 := hI.1.2
  refine lv_aload_n hx hb dX3_bars_0 rfl (lv_at hl 0 rfl) ?_
  refine lv_aload_n hx hb dX3_bars_1 rfl (lv_at hl 0 rfl) ?_
  refine lv_iload_n hx hb dX3_bars_2 rfl (lv_at hl 1 rfl) ?_
  refine lv_iconst (v := 0) hx hb dX3_bars_3 (by decide) ?_
  refine zc_i (zr_V (As := [.int x, .int 0]) (rest := [.ref mo]) ⟨hx, hb, hml, hown, hts⟩ (ct_X3_kindCode l g A mo ma X x 0 hI) zn_X3_kindCode (lw_V q1185 q1187 qs23 q48 q1188) rfl (by decide) (by decide) hK (fun _ h => h) hS hX (zx_recv hK hX) rfl hl.1 (Nat.le_of_ble_eq_true rfl) dX3_bars_4 ⟨Nat.le_refl _, Nat.le_refl _⟩) hS (fun _ h => h) (fun r _ H locs r_1 hX _ _ hS => ?_)
  subst r_1
  rcases mKc_c hI x 0 with ⟨k_2, e_3⟩ | ⟨p, hp, rfl, k_2, e_3⟩ | ⟨p, hp, rfl, k_2, e_3⟩
  · refine zm_topi (y := 1) e_3 ?_
    refine zx_put hx hb hown hts hK hX hS 0 (by decide) rfl q1021 rfl rfl rfl rfl dX3_bars_7 (fun H locs hX hS => ?_)
    refine lv_aload_n hx hb dX3_bars_10 rfl (lv_at hl 0 rfl) ?_
    refine zx_get hx hb hown hts hK hX 0 (by decide) q1021 rfl rfl dX3_bars_11 ?_
    refine zm_topi (y := 1) (by simp [zu]) ?_
    refine lv_if_le (tgt := 21) hx hb dX3_bars_14 (by decide) (fun c_4 => absurd c_4 (by decide)) (fun _ => ?_)
    refine lv_iconst (v := 0) hx hb dX3_bars_17 (by decide) ?_
    refine lv_goto (tgt := 29) hx hb dX3_bars_18 (by decide) ?_
    have e1 : (0 : Int32) = (m_bars X x).1 := by first | (simp [m_bars, mHd_w, mIn_w, mWs_w, mIs_w, mN_w, mK_w, mBo_w0, zu_zu, k_2, e_3]; done) | (simp [m_bars, mHd_w, mIn_w, mWs_w, mIs_w, mN_w, mK_w, mBo_w0, zu_zu, k_2, e_3, zin]; done)
    have e2 : zu X 0 0 1 = (m_bars X x).2 := by first | (simp [m_bars, mHd_w, mIn_w, mWs_w, mIs_w, mN_w, mK_w, mBo_w0, zu_zu, k_2, e_3]; done) | (simp [m_bars, mHd_w, mIn_w, mWs_w, mIs_w, mN_w, mK_w, mBo_w0, zu_zu, k_2, e_3, zin]; done)
    rw [e2] at hX
    exact ze_i hx hb hr hlocks hS dX3_bars_29 (Nat.le_refl _) (Nat.le_refl _) () e1 hX
  · refine zm_topi (y := 2) e_3 ?_
    have hcp : (nI p).toNatClampNeg = p := nI_clamp (by omega)
    refine zx_put hx hb hown hts hK hX hS 0 (by decide) rfl q1021 rfl rfl rfl rfl dX3_bars_7 (fun H locs hX hS => ?_)
    refine lv_aload_n hx hb dX3_bars_10 rfl (lv_at hl 0 rfl) ?_
    refine zx_get hx hb hown hts hK hX 0 (by decide) q1021 rfl rfl dX3_bars_11 ?_
    refine zm_topi (y := 2) (by simp [zu]) ?_
    refine lv_if_le (tgt := 21) hx hb dX3_bars_14 (by decide) (fun c_5 => absurd c_5 (by decide)) (fun _ => ?_)
    refine lv_iconst (v := 0) hx hb dX3_bars_17 (by decide) ?_
    refine lv_goto (tgt := 29) hx hb dX3_bars_18 (by decide) ?_
    have e1 : (0 : Int32) = (m_bars X (nI p)).1 := by first | (simp [m_bars, mHd_w, mIn_w, mWs_w, mIs_w, mN_w, mK_w, mBo_w0, zu_zu, hcp, k_2, e_3]; done) | (simp [m_bars, mHd_w, mIn_w, mWs_w, mIs_w, mN_w, mK_w, mBo_w0, zu_zu, hcp, k_2, e_3, zin]; done)
    have e2 : zu X 0 0 2 = (m_bars X (nI p)).2 := by first | (simp [m_bars, mHd_w, mIn_w, mWs_w, mIs_w, mN_w, mK_w, mBo_w0, zu_zu, hcp, k_2, e_3]; done) | (simp [m_bars, mHd_w, mIn_w, mWs_w, mIs_w, mN_w, mK_w, mBo_w0, zu_zu, hcp, k_2, e_3, zin]; done)
    rw [e2] at hX
    exact ze_i hx hb hr hlocks hS dX3_bars_29 (Nat.le_refl _) (Nat.le_refl _) () e1 hX
  · refine zm_topi (y := 0) e_3 ?_
    have hcp : (nI p).toNatClampNeg = p := nI_clamp (by omega)
    refine zx_put hx hb hown hts hK hX hS 0 (by decide) rfl q1021 rfl rfl rfl rfl dX3_bars_7 (fun H locs hX hS => ?_)
    refine lv_aload_n hx hb dX3_bars_10 rfl (lv_at hl 0 rfl) ?_
    refine zx_get hx hb hown hts hK hX 0 (by decide) q1021 rfl rfl dX3_bars_11 ?_
    refine zm_topi (y := 0) (by simp [zu]) ?_
    refine lv_if_le (tgt := 21) hx hb dX3_bars_14 (by decide) (fun _ => ?_) (fun c_6 => absurd (by decide) c_6)
    refine lv_aload_n hx hb dX3_bars_21 rfl (lv_at hl 0 rfl) ?_
    refine lv_iload_n hx hb dX3_bars_22 rfl (lv_at hl 1 rfl) ?_
    refine zc_i (zr_V (As := [.int (nI p)]) (rest := []) ⟨hx, hb, hml, hown, hts⟩ (ct_X3_barOf l g A mo ma (zu X 0 0 0) p (hI.w 0 0 0 (by decide) (by decide) (by decide)) (by omega) (by intro p; simpa [zu, m_moves, m_ends] using hz9 p) (by intro p; simpa [zu, m_moves, m_ends] using hz10 p)) zn_X3_barOf (lw_V q1248 q1250 qs29 q48 q1251) rfl (by decide) (by decide) hK (fun _ h => h) hS hX (zx_recv hK hX) rfl hl.1 (Nat.le_of_ble_eq_true rfl) dX3_bars_23 ⟨Nat.le_refl _, Nat.le_refl _⟩) hS (fun _ h => h) (fun r _ H locs r_7 hX _ _ hS => ?_)
    subst r_7
    refine zm_topi (y := mBo X p) (by simp [mN_w, mIs_w, mKc_w, mHd_w, mIi_w, mIn_w, mK_w, mH_w, mM_w, mW_w, zu, mBo_w0, mMp_w]) ?_
    refine lv_bipush (v := 100) hx hb dX3_bars_26 (by decide) ?_
    refine lv_idiv hx hb dX3_bars_28 (by decide) ?_
    have e1 : ((mBo X p) / 100 : Int32) = (m_bars X (nI p)).1 := by first | (simp [m_bars, mHd_w, mIn_w, mWs_w, mIs_w, mN_w, mK_w, mBo_w0, zu_zu, hcp, k_2, e_3]; done) | (simp [m_bars, mHd_w, mIn_w, mWs_w, mIs_w, mN_w, mK_w, mBo_w0, zu_zu, hcp, k_2, e_3, zin]; done)
    have e2 : zu X 0 0 0 = (m_bars X (nI p)).2 := by first | (simp [m_bars, mHd_w, mIn_w, mWs_w, mIs_w, mN_w, mK_w, mBo_w0, zu_zu, hcp, k_2, e_3]; done) | (simp [m_bars, mHd_w, mIn_w, mWs_w, mIs_w, mN_w, mK_w, mBo_w0, zu_zu, hcp, k_2, e_3, zin]; done)
    rw [e2] at hX
    exact ze_i hx hb hr hlocks hS dX3_bars_29 (Nat.le_refl _) (Nat.le_refl _) () e1 hX
theorem zn_X3_barredBy : zN yX3_barredBy 1 := by decide +kernel
set_option maxHeartbeats 4000000 in
theorem ct_X3_barredBy (l : Launch) (g : zG) (A : Nat → Prop) (mo : Nat) (ma : Nat → Nat) (X : zX) (x : Int32) (hI : MH X) (hz9 : ∀ p, X 9 p = 0 ∨ X 9 p = 1) (hz10 : ∀ p, X 10 p = 0 ∨ X 10 p = 1) : Met l yX3_barredBy (ws_ yX3_barredBy cX3_barredBy 3 (some .int)) (zR 5 0 0) (zP [.ref mo, .int x] g A (zMX g A mo ma X)) (va_Qi (fun rz_ (_ : Unit) => rz_ = (m_barredBy X x).1) (fun (_ : Unit) t => zMX g A mo ma ((m_barredBy X x).2) t.heap) A) 0 0 A := by
  refine zb_met (by decide) (Nat.le_of_ble_eq_true rfl) ?_
  intro p e s m args below meth c ls hx hb hr hml hown hts hlocks hnm hK hX ha hl
  have hown : s.vm.findClass RX3 = some m.cls := hown
  have hS : va_S A s.heap s.heap [] := va_S.rf
  have hl : lv_has ls 3 [(0, .ref mo), (1, .int x)] := hl
  have hn60 := hI.1.2
  refine lv_aload_n hx hb dX3_barredBy_0 rfl (lv_at hl 0 rfl) ?_
  refine lv_aload_n hx hb dX3_barredBy_1 rfl (lv_at hl 0 rfl) ?_
  refine lv_iload_n hx hb dX3_barredBy_2 rfl (lv_at hl 1 rfl) ?_
  refine lv_iconst (v := 0) hx hb dX3_barredBy_3 (by decide) ?_
  refine zc_i (zr_V (As := [.int x, .int 0]) (rest := [.ref mo]) ⟨hx, hb, hml, hown, hts⟩ (ct_X3_kindCode l g A mo ma X x 0 hI) zn_X3_kindCode (lw_V q1185 q1187 qs23 q48 q1188) rfl (by decide) (by decide) hK (fun _ h => h) hS hX (zx_recv hK hX) rfl hl.1 (Nat.le_of_ble_eq_true rfl) dX3_barredBy_4 ⟨Nat.le_refl _, Nat.le_refl _⟩) hS (fun _ h => h) (fun r _ H locs r_1 hX _ _ hS => ?_)
  subst r_1
  rcases mKc_c hI x 0 with ⟨k_2, e_3⟩ | ⟨p, hp, rfl, k_2, e_3⟩ | ⟨p, hp, rfl, k_2, e_3⟩
  · refine zm_topi (y := 1) e_3 ?_
    refine zx_put hx hb hown hts hK hX hS 0 (by decide) rfl q1021 rfl rfl rfl rfl dX3_barredBy_7 (fun H locs hX hS => ?_)
    refine lv_aload_n hx hb dX3_barredBy_10 rfl (lv_at hl 0 rfl) ?_
    refine zx_get hx hb hown hts hK hX 0 (by decide) q1021 rfl rfl dX3_barredBy_11 ?_
    refine zm_topi (y := 1) (by simp [zu]) ?_
    refine lv_if_le (tgt := 19) hx hb dX3_barredBy_14 (by decide) (fun c_4 => absurd c_4 (by decide)) (fun _ => ?_)
    refine lv_iconst (v := 0) hx hb dX3_barredBy_17 (by decide) ?_
    have e1 : (0 : Int32) = (m_barredBy X x).1 := by first | (simp [m_barredBy, mHd_w, mIn_w, mWs_w, mIs_w, mN_w, mK_w, mBo_w0, zu_zu, k_2, e_3]; done) | (simp [m_barredBy, mHd_w, mIn_w, mWs_w, mIs_w, mN_w, mK_w, mBo_w0, zu_zu, k_2, e_3, zin]; done)
    have e2 : zu X 0 0 1 = (m_barredBy X x).2 := by first | (simp [m_barredBy, mHd_w, mIn_w, mWs_w, mIs_w, mN_w, mK_w, mBo_w0, zu_zu, k_2, e_3]; done) | (simp [m_barredBy, mHd_w, mIn_w, mWs_w, mIs_w, mN_w, mK_w, mBo_w0, zu_zu, k_2, e_3, zin]; done)
    rw [e2] at hX
    exact ze_i hx hb hr hlocks hS dX3_barredBy_18 (Nat.le_refl _) (Nat.le_refl _) () e1 hX
  · refine zm_topi (y := 2) e_3 ?_
    have hcp : (nI p).toNatClampNeg = p := nI_clamp (by omega)
    refine zx_put hx hb hown hts hK hX hS 0 (by decide) rfl q1021 rfl rfl rfl rfl dX3_barredBy_7 (fun H locs hX hS => ?_)
    refine lv_aload_n hx hb dX3_barredBy_10 rfl (lv_at hl 0 rfl) ?_
    refine zx_get hx hb hown hts hK hX 0 (by decide) q1021 rfl rfl dX3_barredBy_11 ?_
    refine zm_topi (y := 2) (by simp [zu]) ?_
    refine lv_if_le (tgt := 19) hx hb dX3_barredBy_14 (by decide) (fun c_5 => absurd c_5 (by decide)) (fun _ => ?_)
    refine lv_iconst (v := 0) hx hb dX3_barredBy_17 (by decide) ?_
    have e1 : (0 : Int32) = (m_barredBy X (nI p)).1 := by first | (simp [m_barredBy, mHd_w, mIn_w, mWs_w, mIs_w, mN_w, mK_w, mBo_w0, zu_zu, hcp, k_2, e_3]; done) | (simp [m_barredBy, mHd_w, mIn_w, mWs_w, mIs_w, mN_w, mK_w, mBo_w0, zu_zu, hcp, k_2, e_3, zin]; done)
    have e2 : zu X 0 0 2 = (m_barredBy X (nI p)).2 := by first | (simp [m_barredBy, mHd_w, mIn_w, mWs_w, mIs_w, mN_w, mK_w, mBo_w0, zu_zu, hcp, k_2, e_3]; done) | (simp [m_barredBy, mHd_w, mIn_w, mWs_w, mIs_w, mN_w, mK_w, mBo_w0, zu_zu, hcp, k_2, e_3, zin]; done)
    rw [e2] at hX
    exact ze_i hx hb hr hlocks hS dX3_barredBy_18 (Nat.le_refl _) (Nat.le_refl _) () e1 hX
  · refine zm_topi (y := 0) e_3 ?_
    have hcp : (nI p).toNatClampNeg = p := nI_clamp (by omega)
    refine zx_put hx hb hown hts hK hX hS 0 (by decide) rfl q1021 rfl rfl rfl rfl dX3_barredBy_7 (fun H locs hX hS => ?_)
    refine lv_aload_n hx hb dX3_barredBy_10 rfl (lv_at hl 0 rfl) ?_
    refine zx_get hx hb hown hts hK hX 0 (by decide) q1021 rfl rfl dX3_barredBy_11 ?_
    refine zm_topi (y := 0) (by simp [zu]) ?_
    refine lv_if_le (tgt := 19) hx hb dX3_barredBy_14 (by decide) (fun _ => ?_) (fun c_6 => absurd (by decide) c_6)
    refine lv_aload_n hx hb dX3_barredBy_19 rfl (lv_at hl 0 rfl) ?_
    refine lv_iload_n hx hb dX3_barredBy_20 rfl (lv_at hl 1 rfl) ?_
    refine zc_i (zr_V (As := [.int (nI p)]) (rest := []) ⟨hx, hb, hml, hown, hts⟩ (ct_X3_barOf l g A mo ma (zu X 0 0 0) p (hI.w 0 0 0 (by decide) (by decide) (by decide)) (by omega) (by intro p; simpa [zu, m_moves, m_ends] using hz9 p) (by intro p; simpa [zu, m_moves, m_ends] using hz10 p)) zn_X3_barOf (lw_V q1248 q1250 qs29 q48 q1251) rfl (by decide) (by decide) hK (fun _ h => h) hS hX (zx_recv hK hX) rfl hl.1 (Nat.le_of_ble_eq_true rfl) dX3_barredBy_21 ⟨Nat.le_refl _, Nat.le_refl _⟩) hS (fun _ h => h) (fun r _ H locs r_7 hX _ _ hS => ?_)
    subst r_7
    refine zm_topi (y := mBo X p) (by simp [mN_w, mIs_w, mKc_w, mHd_w, mIi_w, mIn_w, mK_w, mH_w, mM_w, mW_w, zu, mBo_w0, mMp_w]) ?_
    refine lv_istore_n (lv' := [(2, .int (mBo X p)), (0, .ref mo), (1, .int (nI p))]) hx hb dX3_barredBy_24 rfl hl (by decide) rfl (fun ls hl => ?_)
    refine lv_iload_n hx hb dX3_barredBy_25 rfl (lv_at hl 0 rfl) ?_
    refine lv_if_ne (tgt := 33) hx hb dX3_barredBy_26 (by decide) (fun c_8 => ?_) (fun c_8 => ?_)
    · refine lv_iload_n hx hb dX3_barredBy_33 rfl (lv_at hl 0 rfl) ?_
      refine lv_bipush (v := 100) hx hb dX3_barredBy_34 (by decide) ?_
      refine lv_irem hx hb dX3_barredBy_36 (by decide) ?_
      have e1 : ((mBo X p) - (mBo X p) / 100 * 100 : Int32) = (m_barredBy X (nI p)).1 := by first | (simp [m_barredBy, mHd_w, mIn_w, mWs_w, mIs_w, mN_w, mK_w, mBo_w0, zu_zu, hcp, k_2, e_3, c_8]; done) | (simp [m_barredBy, mHd_w, mIn_w, mWs_w, mIs_w, mN_w, mK_w, mBo_w0, zu_zu, hcp, k_2, e_3, c_8, zin]; done)
      have e2 : zu X 0 0 0 = (m_barredBy X (nI p)).2 := by first | (simp [m_barredBy, mHd_w, mIn_w, mWs_w, mIs_w, mN_w, mK_w, mBo_w0, zu_zu, hcp, k_2, e_3, c_8]; done) | (simp [m_barredBy, mHd_w, mIn_w, mWs_w, mIs_w, mN_w, mK_w, mBo_w0, zu_zu, hcp, k_2, e_3, c_8, zin]; done)
      rw [e2] at hX
      exact ze_i hx hb hr hlocks hS dX3_barredBy_37 (Nat.le_refl _) (Nat.le_refl _) () e1 hX
    · refine lv_iconst (v := (-1)) hx hb dX3_barredBy_29 (by decide) ?_
      refine lv_goto (tgt := 37) hx hb dX3_barredBy_30 (by decide) ?_
      have e1 : ((-1) : Int32) = (m_barredBy X (nI p)).1 := by first | (simp [m_barredBy, mHd_w, mIn_w, mWs_w, mIs_w, mN_w, mK_w, mBo_w0, zu_zu, hcp, k_2, e_3, c_8]; done) | (simp [m_barredBy, mHd_w, mIn_w, mWs_w, mIs_w, mN_w, mK_w, mBo_w0, zu_zu, hcp, k_2, e_3, c_8, zin]; done)
      have e2 : zu X 0 0 0 = (m_barredBy X (nI p)).2 := by first | (simp [m_barredBy, mHd_w, mIn_w, mWs_w, mIs_w, mN_w, mK_w, mBo_w0, zu_zu, hcp, k_2, e_3, c_8]; done) | (simp [m_barredBy, mHd_w, mIn_w, mWs_w, mIs_w, mN_w, mK_w, mBo_w0, zu_zu, hcp, k_2, e_3, c_8, zin]; done)
      rw [e2] at hX
      exact ze_i hx hb hr hlocks hS dX3_barredBy_37 (Nat.le_refl _) (Nat.le_refl _) () e1 hX
theorem zn_X3_isReleased : zN yX3_isReleased 1 := by decide +kernel
set_option maxHeartbeats 4000000 in
theorem ct_X3_isReleased (l : Launch) (g : zG) (A : Nat → Prop) (mo : Nat) (ma : Nat → Nat) (X : zX) (x : Int32) (hI : MH X) : Met l yX3_isReleased (ws_ yX3_isReleased cX3_isReleased 2 (some .boolean)) (zR 4 0 0) (zP [.ref mo, .int x] g A (zMX g A mo ma X)) (va_Qi (fun rz_ (_ : Unit) => rz_ = zb (m_isRel X x)) (fun (_ : Unit) t => zMX g A mo ma (zu X 0 0 (mKc X x 0)) t.heap) A) 0 0 A := by
  refine zb_met (by decide) (Nat.le_of_ble_eq_true rfl) ?_
  intro p e s m args below meth c ls hx hb hr hml hown hts hlocks hnm hK hX ha hl
  have hown : s.vm.findClass RX3 = some m.cls := hown
  have hS : va_S A s.heap s.heap [] := va_S.rf
  have hl : lv_has ls 2 [(0, .ref mo), (1, .int x)] := hl
  have hn60 := hI.1.2
  refine lv_aload_n hx hb dX3_isReleased_0 rfl (lv_at hl 0 rfl) ?_
  refine lv_aload_n hx hb dX3_isReleased_1 rfl (lv_at hl 0 rfl) ?_
  refine lv_iload_n hx hb dX3_isReleased_2 rfl (lv_at hl 1 rfl) ?_
  refine lv_iconst (v := 0) hx hb dX3_isReleased_3 (by decide) ?_
  refine zc_i (zr_V (As := [.int x, .int 0]) (rest := [.ref mo]) ⟨hx, hb, hml, hown, hts⟩ (ct_X3_kindCode l g A mo ma X x 0 hI) zn_X3_kindCode (lw_V q1185 q1187 qs23 q48 q1188) rfl (by decide) (by decide) hK (fun _ h => h) hS hX (zx_recv hK hX) rfl hl.1 (Nat.le_of_ble_eq_true rfl) dX3_isReleased_4 ⟨Nat.le_refl _, Nat.le_refl _⟩) hS (fun _ h => h) (fun r _ H locs r_1 hX _ _ hS => ?_)
  subst r_1
  rcases mKc_c hI x 0 with ⟨k_2, e_3⟩ | ⟨p, hp, rfl, k_2, e_3⟩ | ⟨p, hp, rfl, k_2, e_3⟩
  · refine zm_topi (y := 1) e_3 ?_
    refine zx_put hx hb hown hts hK hX hS 0 (by decide) rfl q1021 rfl rfl rfl rfl dX3_isReleased_7 (fun H locs hX hS => ?_)
    refine lv_aload_n hx hb dX3_isReleased_10 rfl (lv_at hl 0 rfl) ?_
    refine zx_get hx hb hown hts hK hX 0 (by decide) q1021 rfl rfl dX3_isReleased_11 ?_
    refine zm_topi (y := 1) (by simp [zu]) ?_
    refine lv_if_ne (tgt := 30) hx hb dX3_isReleased_14 (by decide) (fun _ => ?_) (fun c_4 => absurd c_4 (by decide))
    refine lv_iconst (v := 0) hx hb dX3_isReleased_30 (by decide) ?_
    have e1 : (0 : Int32) = zb (m_isRel X x) := by first | (simp [m_isRel, mHd_w, mIn_w, mWs_w, mIs_w, mN_w, mK_w, mBo_w0, zu_zu, zb, k_2, e_3]; done) | (simp [m_isRel, mHd_w, mIn_w, mWs_w, mIs_w, mN_w, mK_w, mBo_w0, zu_zu, zb, k_2, e_3, zin]; done)
    have e2 : zu X 0 0 1 = zu X 0 0 (mKc X x 0) := by first | (simp [m_isRel, mHd_w, mIn_w, mWs_w, mIs_w, mN_w, mK_w, mBo_w0, zu_zu, k_2, e_3]; done) | (simp [m_isRel, mHd_w, mIn_w, mWs_w, mIs_w, mN_w, mK_w, mBo_w0, zu_zu, k_2, e_3, zin]; done)
    rw [e2] at hX
    exact ze_z hx hb hr hlocks hS dX3_isReleased_31 (Nat.le_refl _) (Nat.le_refl _) (Or.inl rfl) () e1 hX
  · refine zm_topi (y := 2) e_3 ?_
    have hcp : (nI p).toNatClampNeg = p := nI_clamp (by omega)
    refine zx_put hx hb hown hts hK hX hS 0 (by decide) rfl q1021 rfl rfl rfl rfl dX3_isReleased_7 (fun H locs hX hS => ?_)
    refine lv_aload_n hx hb dX3_isReleased_10 rfl (lv_at hl 0 rfl) ?_
    refine zx_get hx hb hown hts hK hX 0 (by decide) q1021 rfl rfl dX3_isReleased_11 ?_
    refine zm_topi (y := 2) (by simp [zu]) ?_
    refine lv_if_ne (tgt := 30) hx hb dX3_isReleased_14 (by decide) (fun _ => ?_) (fun c_5 => absurd c_5 (by decide))
    refine lv_iconst (v := 0) hx hb dX3_isReleased_30 (by decide) ?_
    have e1 : (0 : Int32) = zb (m_isRel X (nI p)) := by first | (simp [m_isRel, mHd_w, mIn_w, mWs_w, mIs_w, mN_w, mK_w, mBo_w0, zu_zu, zb, hcp, k_2, e_3]; done) | (simp [m_isRel, mHd_w, mIn_w, mWs_w, mIs_w, mN_w, mK_w, mBo_w0, zu_zu, zb, hcp, k_2, e_3, zin]; done)
    have e2 : zu X 0 0 2 = zu X 0 0 (mKc X (nI p) 0) := by first | (simp [m_isRel, mHd_w, mIn_w, mWs_w, mIs_w, mN_w, mK_w, mBo_w0, zu_zu, hcp, k_2, e_3]; done) | (simp [m_isRel, mHd_w, mIn_w, mWs_w, mIs_w, mN_w, mK_w, mBo_w0, zu_zu, hcp, k_2, e_3, zin]; done)
    rw [e2] at hX
    exact ze_z hx hb hr hlocks hS dX3_isReleased_31 (Nat.le_refl _) (Nat.le_refl _) (Or.inl rfl) () e1 hX
  · refine zm_topi (y := 0) e_3 ?_
    have hcp : (nI p).toNatClampNeg = p := nI_clamp (by omega)
    refine zx_put hx hb hown hts hK hX hS 0 (by decide) rfl q1021 rfl rfl rfl rfl dX3_isReleased_7 (fun H locs hX hS => ?_)
    refine lv_aload_n hx hb dX3_isReleased_10 rfl (lv_at hl 0 rfl) ?_
    refine zx_get hx hb hown hts hK hX 0 (by decide) q1021 rfl rfl dX3_isReleased_11 ?_
    refine zm_topi (y := 0) (by simp [zu]) ?_
    refine lv_if_ne (tgt := 30) hx hb dX3_isReleased_14 (by decide) (fun c_6 => absurd (by decide) c_6) (fun _ => ?_)
    refine lv_aload_n hx hb dX3_isReleased_17 rfl (lv_at hl 0 rfl) ?_
    refine zx_get hx hb hown hts hK hX 11 (by decide) q1032 rfl rfl dX3_isReleased_18 ?_
    refine lv_iload_n hx hb dX3_isReleased_21 rfl (lv_at hl 1 rfl) ?_
    refine zx_ldz (i := p) hx hb hK hX 11 rfl rfl (n := 60) rfl (by omega) dX3_isReleased_22 ?_
    refine zm_topi (y := X 11 p) (by simp [zu]) ?_
    refine lv_if_eq (tgt := 30) hx hb dX3_isReleased_23 (by decide) (fun c_7 => ?_) (fun c_7 => ?_)
    · refine lv_iconst (v := 0) hx hb dX3_isReleased_30 (by decide) ?_
      have e1 : (0 : Int32) = zb (m_isRel X (nI p)) := by first | (simp [m_isRel, mHd_w, mIn_w, mWs_w, mIs_w, mN_w, mK_w, mBo_w0, zu_zu, zb, hcp, k_2, e_3, c_7]; done) | (simp [m_isRel, mHd_w, mIn_w, mWs_w, mIs_w, mN_w, mK_w, mBo_w0, zu_zu, zb, hcp, k_2, e_3, c_7, zin]; done)
      have e2 : zu X 0 0 0 = zu X 0 0 (mKc X (nI p) 0) := by first | (simp [m_isRel, mHd_w, mIn_w, mWs_w, mIs_w, mN_w, mK_w, mBo_w0, zu_zu, hcp, k_2, e_3, c_7]; done) | (simp [m_isRel, mHd_w, mIn_w, mWs_w, mIs_w, mN_w, mK_w, mBo_w0, zu_zu, hcp, k_2, e_3, c_7, zin]; done)
      rw [e2] at hX
      exact ze_z hx hb hr hlocks hS dX3_isReleased_31 (Nat.le_refl _) (Nat.le_refl _) (Or.inl rfl) () e1 hX
    · refine lv_iconst (v := 1) hx hb dX3_isReleased_26 (by decide) ?_
      refine lv_goto (tgt := 31) hx hb dX3_isReleased_27 (by decide) ?_
      have e1 : (1 : Int32) = zb (m_isRel X (nI p)) := by first | (simp [m_isRel, mHd_w, mIn_w, mWs_w, mIs_w, mN_w, mK_w, mBo_w0, zu_zu, zb, hcp, k_2, e_3, c_7]; done) | (simp [m_isRel, mHd_w, mIn_w, mWs_w, mIs_w, mN_w, mK_w, mBo_w0, zu_zu, zb, hcp, k_2, e_3, c_7, zin]; done)
      have e2 : zu X 0 0 0 = zu X 0 0 (mKc X (nI p) 0) := by first | (simp [m_isRel, mHd_w, mIn_w, mWs_w, mIs_w, mN_w, mK_w, mBo_w0, zu_zu, hcp, k_2, e_3, c_7]; done) | (simp [m_isRel, mHd_w, mIn_w, mWs_w, mIs_w, mN_w, mK_w, mBo_w0, zu_zu, hcp, k_2, e_3, c_7, zin]; done)
      rw [e2] at hX
      exact ze_z hx hb hr hlocks hS dX3_isReleased_31 (Nat.le_refl _) (Nat.le_refl _) (Or.inr rfl) () e1 hX
theorem zn_X3_movesOfPart : zN yX3_movesOfPart 1 := by decide +kernel
set_option maxHeartbeats 4000000 in
theorem ct_X3_movesOfPart (l : Launch) (g : zG) (A : Nat → Prop) (mo : Nat) (ma : Nat → Nat) (X : zX) (x : Int32) (hM : X 23 0 = nI (mM X) ∧ mM X < 3000) : Met l yX3_movesOfPart (ws_ yX3_movesOfPart cX3_movesOfPart 4 (some .int)) (zR 1 0 0) (zP [.ref mo, .int x] g A (zMX g A mo ma X)) (va_Qi (fun rz_ (_ : Unit) => rz_ = nI (mMp X x)) (fun (_ : Unit) t => zMX g A mo ma X t.heap) A) 0 0 A := by
  refine zb_met (by decide) (Nat.le_of_ble_eq_true rfl) ?_
  intro p e s m args below meth c ls hx hb hr hml hown hts hlocks hnm hK hX ha hl
  have hown : s.vm.findClass RX3 = some m.cls := hown
  have hS : va_S A s.heap s.heap [] := va_S.rf
  have hl : lv_has ls 4 [(0, .ref mo), (1, .int x)] := hl
  refine lv_iconst (v := 0) hx hb dX3_movesOfPart_0 (by decide) ?_
  refine lv_istore_n (lv' := [(2, .int 0), (0, .ref mo), (1, .int x)]) hx hb dX3_movesOfPart_1 rfl hl (by decide) rfl (fun ls hl => ?_)
  refine lv_iconst (v := 0) hx hb dX3_movesOfPart_2 (by decide) ?_
  refine lv_istore_n (lv' := [(3, .int 0), (2, .int 0), (0, .ref mo), (1, .int x)]) hx hb dX3_movesOfPart_3 rfl hl (by decide) rfl (fun ls hl => ?_)
  have L_2 : ∀ (n_1 : Nat) (j : Nat), mM X + 1 - j < n_1 → (j ≤ mM X) → ∀ (H : Heap) (locs : List Loc) (ls : Array Slot), zMX g A mo ma X H → va_S A s.heap H locs → lv_has ls 4 [(3, .int (nI j)), (2, .int (nI (zct (mMf X x) j))), (0, .ref mo), (1, .int x)] → W p l e (zR 1 0 0) s m args below meth c H locs 0 0 (MQ below (va_Qi (fun rz_ (_ : Unit) => rz_ = nI (mMp X x)) (fun (_ : Unit) t => zMX g A mo ma X t.heap) A) args s 0 0 A) (F0 m 4 ls []) := by
    intro n_1
    induction n_1 with
    | zero => intro j hm; exact absurd hm (Nat.not_lt_zero _)
    | succ n_1 ih =>
      intro j hm hj H locs ls hX hS hl
      have ih_3 := ih
      refine lv_iload_n hx hb dX3_movesOfPart_4 rfl (lv_at hl 0 rfl) ?_
      refine lv_aload_n hx hb dX3_movesOfPart_5 rfl (lv_at hl 2 rfl) ?_
      refine zx_get hx hb hown hts hK hX 23 (by decide) q1044 rfl rfl dX3_movesOfPart_6 ?_
      refine zm_topi (y := nI (mM X)) (hM.1) ?_
      refine zl_ge (tgt := 36) (a := j) (b := mM X) hx hb (by first | decide | omega) (by first | decide | omega) dX3_movesOfPart_9 (by decide) (fun c_4 => ?_) (fun c_4 => ?_)
      · refine lv_iload_n hx hb dX3_movesOfPart_36 rfl (lv_at hl 1 rfl) ?_
        have e1 : (nI (zct (mMf X x) j) : Int32) = nI (mMp X x) := by have q2 : j = mM X := (by omega); subst q2; rfl
        exact ze_i hx hb hr hlocks hS dX3_movesOfPart_37 (Nat.le_refl _) (Nat.le_refl _) () e1 hX
      · refine lv_iload_n hx hb dX3_movesOfPart_12 rfl (lv_at hl 1 rfl) ?_
        refine lv_aload_n hx hb dX3_movesOfPart_13 rfl (lv_at hl 2 rfl) ?_
        refine zx_get hx hb hown hts hK hX 24 (by decide) q1045 rfl rfl dX3_movesOfPart_14 ?_
        refine lv_iload_n hx hb dX3_movesOfPart_17 rfl (lv_at hl 0 rfl) ?_
        refine zx_ld (i := j) hx hb hK hX 24 rfl rfl (n := 4000) rfl (by omega) dX3_movesOfPart_18 ?_
        refine lv_iload_n hx hb dX3_movesOfPart_19 rfl (lv_at hl 3 rfl) ?_
        refine lv_icmp_ne (tgt := 27) hx hb dX3_movesOfPart_20 (by decide) (fun c_5 => ?_) (fun c_5 => ?_)
        · refine lv_iconst (v := 0) hx hb dX3_movesOfPart_27 (by decide) ?_
          refine lv_iadd hx hb dX3_movesOfPart_28 ?_
          refine zm_topi (y := nI (zct (mMf X x) (j + 1))) (by simp [zct, mMf, nI_1, c_4, c_5]) ?_
          refine lv_istore_n (lv' := [(2, .int (nI (zct (mMf X x) (j + 1)))), (3, .int (nI j)), (0, .ref mo), (1, .int x)]) hx hb dX3_movesOfPart_29 rfl hl (by decide) rfl (fun ls hl => ?_)
          refine lv_iinc (v := nI (j + 1)) (lv' := [(3, .int (nI (j + 1))), (2, .int (nI (zct (mMf X x) (j + 1)))), (0, .ref mo), (1, .int x)]) hx hb dX3_movesOfPart_30 hl (k := 1) rfl (nI_1 j) (by decide) rfl (fun ls hl => ?_)
          refine lv_goto (tgt := 4) hx hb dX3_movesOfPart_33 (by decide) ?_
          exact ih_3 (j + 1) (by omega) (by omega) _ _ _ hX hS (lv_sub hl [0, 1, 2, 3] rfl)
        · refine lv_iconst (v := 1) hx hb dX3_movesOfPart_23 (by decide) ?_
          refine lv_goto (tgt := 28) hx hb dX3_movesOfPart_24 (by decide) ?_
          refine lv_iadd hx hb dX3_movesOfPart_28 ?_
          refine zm_topi (y := nI (zct (mMf X x) j + 1)) (nI_1 (zct (mMf X x) j)) ?_
          refine zm_topi (y := nI (zct (mMf X x) (j + 1))) (by simp [zct, mMf, nI_1, c_4, c_5]) ?_
          refine lv_istore_n (lv' := [(2, .int (nI (zct (mMf X x) (j + 1)))), (3, .int (nI j)), (0, .ref mo), (1, .int x)]) hx hb dX3_movesOfPart_29 rfl hl (by decide) rfl (fun ls hl => ?_)
          refine lv_iinc (v := nI (j + 1)) (lv' := [(3, .int (nI (j + 1))), (2, .int (nI (zct (mMf X x) (j + 1)))), (0, .ref mo), (1, .int x)]) hx hb dX3_movesOfPart_30 hl (k := 1) rfl (nI_1 j) (by decide) rfl (fun ls hl => ?_)
          refine lv_goto (tgt := 4) hx hb dX3_movesOfPart_33 (by decide) ?_
          exact ih_3 (j + 1) (by omega) (by omega) _ _ _ hX hS (lv_sub hl [0, 1, 2, 3] rfl)
  exact L_2 ((mM X + 1 - 0) + 1) 0 (Nat.lt_succ_self _) (by omega) _ _ _ hX hS (lv_sub hl [0, 1, 2, 3] rfl)
theorem zn_X3_ofPart : zN yX3_ofPart 2 := by decide +kernel
set_option maxHeartbeats 4000000 in
theorem ct_X3_ofPart (l : Launch) (g : zG) (A : Nat → Prop) (mo : Nat) (ma : Nat → Nat) (X : zX) (x : Int32) (w : Int32) (hI : MH X) (hM : X 23 0 = nI (mM X) ∧ mM X < 3000) : Met l yX3_ofPart (ws_ yX3_ofPart cX3_ofPart 3 (some .int)) (zR 3 0 0) (zP [.ref mo, .int x, .int w] g A (zMX g A mo ma X)) (va_Qi (fun rz_ (_ : Unit) => rz_ = (m_ofPart X x w).1) (fun (_ : Unit) t => zMX g A mo ma ((m_ofPart X x w).2) t.heap) A) 0 0 A := by
  refine zb_met (by decide) (Nat.le_of_ble_eq_true rfl) ?_
  intro p e s m args below meth c ls hx hb hr hml hown hts hlocks hnm hK hX ha hl
  have hown : s.vm.findClass RX3 = some m.cls := hown
  have hS : va_S A s.heap s.heap [] := va_S.rf
  have hl : lv_has ls 3 [(0, .ref mo), (1, .int x), (2, .int w)] := hl
  have hn60 := hI.1.2
  refine lv_aload_n hx hb dX3_ofPart_0 rfl (lv_at hl 0 rfl) ?_
  refine lv_aload_n hx hb dX3_ofPart_1 rfl (lv_at hl 0 rfl) ?_
  refine lv_iload_n hx hb dX3_ofPart_2 rfl (lv_at hl 1 rfl) ?_
  refine zc_i (zr_V (As := [.int x]) (rest := [.ref mo]) ⟨hx, hb, hml, hown, hts⟩ (ct_X3_isPart l g A mo ma X x) zn_X3_isPart (lw_V q1142 q1144 qs16 q48 q1145) rfl (by decide) (by decide) hK (fun _ h => h) hS hX (zx_recv hK hX) rfl hl.1 (Nat.le_of_ble_eq_true rfl) dX3_ofPart_3 ⟨Nat.le_refl _, Nat.le_refl _⟩) hS (fun _ h => h) (fun r _ H locs r_1 hX _ _ hS => ?_)
  subst r_1
  refine zl_ifne (tgt := 13) hx hb dX3_ofPart_6 (by decide) (fun c_2 => ?_) (fun c_2 => ?_)
  · obtain ⟨p, hp, rfl⟩ := mIs_t hI c_2
    have hcp : (nI p).toNatClampNeg = p := nI_clamp (by omega)
    refine lv_iload_n hx hb dX3_ofPart_13 rfl (lv_at hl 2 rfl) ?_
    refine lv_iconst (v := 0) hx hb dX3_ofPart_14 (by decide) ?_
    refine lv_bipush (v := 8) hx hb dX3_ofPart_15 (by decide) ?_
    refine zc_i (zr_S (As := [.int w, .int 0, .int 8]) (rest := [.ref mo]) ⟨hx, hb, hml, hown, hts⟩ (ct_X3_in l g A (zMX g A mo ma X) w 0 8) zn_X3_in (lw_S q1130 q1131 q48 q1132) (by decide) (by decide) hK (fun _ h => h) hS hX rfl hl.1 (Nat.le_of_ble_eq_true rfl) dX3_ofPart_17 ⟨Nat.le_refl _, Nat.le_refl _⟩) hS (fun _ h => h) (fun r _ H locs r_3 hX _ _ hS => ?_)
    subst r_3
    refine zl_ifeq (tgt := 27) hx hb dX3_ofPart_20 (by decide) (fun c_4 => ?_) (fun c_4 => ?_)
    · refine lv_iconst (v := 2) hx hb dX3_ofPart_27 (by decide) ?_
      refine zx_put hx hb hown hts hK hX hS 0 (by decide) rfl q1021 rfl rfl rfl rfl dX3_ofPart_28 (fun H locs hX hS => ?_)
      refine lv_aload_n hx hb dX3_ofPart_31 rfl (lv_at hl 0 rfl) ?_
      refine zx_get hx hb hown hts hK hX 0 (by decide) q1021 rfl rfl dX3_ofPart_32 ?_
      refine zm_topi (y := 2) (by simp [zu]) ?_
      refine lv_if_le (tgt := 40) hx hb dX3_ofPart_35 (by decide) (fun c_5 => absurd c_5 (by decide)) (fun _ => ?_)
      refine lv_iconst (v := 0) hx hb dX3_ofPart_38 (by decide) ?_
      have e1 : (0 : Int32) = (m_ofPart X (nI p) w).1 := by first | (simp [m_ofPart, mHd_w, mIn_w, mWs_w, mIs_w, mN_w, mK_w, mBo_w0, zu_zu, hcp, c_2, c_4]; done) | (simp [m_ofPart, mHd_w, mIn_w, mWs_w, mIs_w, mN_w, mK_w, mBo_w0, zu_zu, hcp, c_2, c_4, zin]; done)
      have e2 : zu X 0 0 2 = (m_ofPart X (nI p) w).2 := by first | (simp [m_ofPart, mHd_w, mIn_w, mWs_w, mIs_w, mN_w, mK_w, mBo_w0, zu_zu, hcp, c_2, c_4]; done) | (simp [m_ofPart, mHd_w, mIn_w, mWs_w, mIs_w, mN_w, mK_w, mBo_w0, zu_zu, hcp, c_2, c_4, zin]; done)
      rw [e2] at hX
      exact ze_i hx hb hr hlocks hS dX3_ofPart_39 (Nat.le_refl _) (Nat.le_refl _) () e1 hX
    · refine lv_iconst (v := 0) hx hb dX3_ofPart_23 (by decide) ?_
      refine lv_goto (tgt := 28) hx hb dX3_ofPart_24 (by decide) ?_
      refine zx_put hx hb hown hts hK hX hS 0 (by decide) rfl q1021 rfl rfl rfl rfl dX3_ofPart_28 (fun H locs hX hS => ?_)
      refine lv_aload_n hx hb dX3_ofPart_31 rfl (lv_at hl 0 rfl) ?_
      refine zx_get hx hb hown hts hK hX 0 (by decide) q1021 rfl rfl dX3_ofPart_32 ?_
      refine zm_topi (y := 0) (by simp [zu]) ?_
      refine lv_if_le (tgt := 40) hx hb dX3_ofPart_35 (by decide) (fun _ => ?_) (fun c_6 => absurd (by decide) c_6)
      refine lv_iload_n hx hb dX3_ofPart_40 rfl (lv_at hl 2 rfl) ?_
      refine lv_iconst (v := 3) hx hb dX3_ofPart_41 (by decide) ?_
      refine lv_icmp_ge (tgt := 79) hx hb dX3_ofPart_42 (by decide) (fun c_7 => ?_) (fun c_7 => ?_)
      · refine lv_iload_n hx hb dX3_ofPart_79 rfl (lv_at hl 2 rfl) ?_
        refine lv_bipush (v := 6) hx hb dX3_ofPart_80 (by decide) ?_
        refine lv_icmp_ge (tgt := 120) hx hb dX3_ofPart_82 (by decide) (fun c_8 => ?_) (fun c_8 => ?_)
        · refine lv_iload_n hx hb dX3_ofPart_120 rfl (lv_at hl 2 rfl) ?_
          refine lv_bipush (v := 6) hx hb dX3_ofPart_121 (by decide) ?_
          refine lv_icmp_ne (tgt := 143) hx hb dX3_ofPart_123 (by decide) (fun c_9 => ?_) (fun c_9 => ?_)
          · refine lv_iload_n hx hb dX3_ofPart_143 rfl (lv_at hl 2 rfl) ?_
            refine lv_bipush (v := 7) hx hb dX3_ofPart_144 (by decide) ?_
            refine lv_icmp_ne (tgt := 166) hx hb dX3_ofPart_146 (by decide) (fun c_10 => ?_) (fun c_10 => ?_)
            · refine lv_aload_n hx hb dX3_ofPart_166 rfl (lv_at hl 0 rfl) ?_
              refine lv_iload_n hx hb dX3_ofPart_167 rfl (lv_at hl 1 rfl) ?_
              refine zc_i (zr_V (As := [.int (nI p)]) (rest := []) ⟨hx, hb, hml, hown, hts⟩ (ct_X3_movesOfPart l g A mo ma (zu X 0 0 0) (nI p) (by simpa [mM_w, zu, m_moves, m_ends] using hM)) zn_X3_movesOfPart (lw_V q1306 q1308 qs37 q48 q1309) rfl (by decide) (by decide) hK (fun _ h => h) hS hX (zx_recv hK hX) rfl hl.1 (Nat.le_of_ble_eq_true rfl) dX3_ofPart_168 ⟨Nat.le_refl _, Nat.le_refl _⟩) hS (fun _ h => h) (fun r _ H locs r_11 hX _ _ hS => ?_)
              subst r_11
              refine zm_topi (y := nI (mMp X (nI p))) (by simp [mN_w, mIs_w, mKc_w, mHd_w, mIi_w, mIn_w, mK_w, mH_w, mM_w, mW_w, zu, mBo_w0, mMp_w]) ?_
              have e1 : (nI (mMp X (nI p)) : Int32) = (m_ofPart X (nI p) w).1 := by first | (simp [m_ofPart, mHd_w, mIn_w, mWs_w, mIs_w, mN_w, mK_w, mBo_w0, zu_zu, hcp, c_2, c_4, c_7, c_8, c_9, c_10]; done) | (simp [m_ofPart, mHd_w, mIn_w, mWs_w, mIs_w, mN_w, mK_w, mBo_w0, zu_zu, hcp, c_2, c_4, c_7, c_8, c_9, c_10, zin]; done)
              have e2 : zu X 0 0 0 = (m_ofPart X (nI p) w).2 := by first | (simp [m_ofPart, mHd_w, mIn_w, mWs_w, mIs_w, mN_w, mK_w, mBo_w0, zu_zu, hcp, c_2, c_4, c_7, c_8, c_9, c_10]; done) | (simp [m_ofPart, mHd_w, mIn_w, mWs_w, mIs_w, mN_w, mK_w, mBo_w0, zu_zu, hcp, c_2, c_4, c_7, c_8, c_9, c_10, zin]; done)
              rw [e2] at hX
              exact ze_i hx hb hr hlocks hS dX3_ofPart_171 (Nat.le_refl _) (Nat.le_refl _) () e1 hX
            · refine lv_aload_n hx hb dX3_ofPart_149 rfl (lv_at hl 0 rfl) ?_
              refine zx_get hx hb hown hts hK hX 10 (by decide) q1031 rfl rfl dX3_ofPart_150 ?_
              refine lv_iload_n hx hb dX3_ofPart_153 rfl (lv_at hl 1 rfl) ?_
              refine zx_ldz (i := p) hx hb hK hX 10 rfl rfl (n := 60) rfl (by omega) dX3_ofPart_154 ?_
              refine zm_topi (y := X 10 p) (by simp [zu]) ?_
              refine lv_if_eq (tgt := 162) hx hb dX3_ofPart_155 (by decide) (fun c_12 => ?_) (fun c_12 => ?_)
              · refine lv_iconst (v := 0) hx hb dX3_ofPart_162 (by decide) ?_
                refine lv_goto (tgt := 171) hx hb dX3_ofPart_163 (by decide) ?_
                have e1 : (0 : Int32) = (m_ofPart X (nI p) w).1 := by first | (simp [m_ofPart, mHd_w, mIn_w, mWs_w, mIs_w, mN_w, mK_w, mBo_w0, zu_zu, hcp, c_2, c_4, c_7, c_8, c_9, c_10, c_12]; done) | (simp [m_ofPart, mHd_w, mIn_w, mWs_w, mIs_w, mN_w, mK_w, mBo_w0, zu_zu, hcp, c_2, c_4, c_7, c_8, c_9, c_10, c_12, zin]; done)
                have e2 : zu X 0 0 0 = (m_ofPart X (nI p) w).2 := by first | (simp [m_ofPart, mHd_w, mIn_w, mWs_w, mIs_w, mN_w, mK_w, mBo_w0, zu_zu, hcp, c_2, c_4, c_7, c_8, c_9, c_10, c_12]; done) | (simp [m_ofPart, mHd_w, mIn_w, mWs_w, mIs_w, mN_w, mK_w, mBo_w0, zu_zu, hcp, c_2, c_4, c_7, c_8, c_9, c_10, c_12, zin]; done)
                rw [e2] at hX
                exact ze_i hx hb hr hlocks hS dX3_ofPart_171 (Nat.le_refl _) (Nat.le_refl _) () e1 hX
              · refine lv_iconst (v := 1) hx hb dX3_ofPart_158 (by decide) ?_
                refine lv_goto (tgt := 171) hx hb dX3_ofPart_159 (by decide) ?_
                have e1 : (1 : Int32) = (m_ofPart X (nI p) w).1 := by first | (simp [m_ofPart, mHd_w, mIn_w, mWs_w, mIs_w, mN_w, mK_w, mBo_w0, zu_zu, hcp, c_2, c_4, c_7, c_8, c_9, c_10, c_12]; done) | (simp [m_ofPart, mHd_w, mIn_w, mWs_w, mIs_w, mN_w, mK_w, mBo_w0, zu_zu, hcp, c_2, c_4, c_7, c_8, c_9, c_10, c_12, zin]; done)
                have e2 : zu X 0 0 0 = (m_ofPart X (nI p) w).2 := by first | (simp [m_ofPart, mHd_w, mIn_w, mWs_w, mIs_w, mN_w, mK_w, mBo_w0, zu_zu, hcp, c_2, c_4, c_7, c_8, c_9, c_10, c_12]; done) | (simp [m_ofPart, mHd_w, mIn_w, mWs_w, mIs_w, mN_w, mK_w, mBo_w0, zu_zu, hcp, c_2, c_4, c_7, c_8, c_9, c_10, c_12, zin]; done)
                rw [e2] at hX
                exact ze_i hx hb hr hlocks hS dX3_ofPart_171 (Nat.le_refl _) (Nat.le_refl _) () e1 hX
          · refine lv_aload_n hx hb dX3_ofPart_126 rfl (lv_at hl 0 rfl) ?_
            refine zx_get hx hb hown hts hK hX 9 (by decide) q1030 rfl rfl dX3_ofPart_127 ?_
            refine lv_iload_n hx hb dX3_ofPart_130 rfl (lv_at hl 1 rfl) ?_
            refine zx_ldz (i := p) hx hb hK hX 9 rfl rfl (n := 60) rfl (by omega) dX3_ofPart_131 ?_
            refine zm_topi (y := X 9 p) (by simp [zu]) ?_
            refine lv_if_eq (tgt := 139) hx hb dX3_ofPart_132 (by decide) (fun c_13 => ?_) (fun c_13 => ?_)
            · refine lv_iconst (v := 0) hx hb dX3_ofPart_139 (by decide) ?_
              refine lv_goto (tgt := 171) hx hb dX3_ofPart_140 (by decide) ?_
              have e1 : (0 : Int32) = (m_ofPart X (nI p) w).1 := by first | (simp [m_ofPart, mHd_w, mIn_w, mWs_w, mIs_w, mN_w, mK_w, mBo_w0, zu_zu, hcp, c_2, c_4, c_7, c_8, c_9, c_13]; done) | (simp [m_ofPart, mHd_w, mIn_w, mWs_w, mIs_w, mN_w, mK_w, mBo_w0, zu_zu, hcp, c_2, c_4, c_7, c_8, c_9, c_13, zin]; done)
              have e2 : zu X 0 0 0 = (m_ofPart X (nI p) w).2 := by first | (simp [m_ofPart, mHd_w, mIn_w, mWs_w, mIs_w, mN_w, mK_w, mBo_w0, zu_zu, hcp, c_2, c_4, c_7, c_8, c_9, c_13]; done) | (simp [m_ofPart, mHd_w, mIn_w, mWs_w, mIs_w, mN_w, mK_w, mBo_w0, zu_zu, hcp, c_2, c_4, c_7, c_8, c_9, c_13, zin]; done)
              rw [e2] at hX
              exact ze_i hx hb hr hlocks hS dX3_ofPart_171 (Nat.le_refl _) (Nat.le_refl _) () e1 hX
            · refine lv_iconst (v := 1) hx hb dX3_ofPart_135 (by decide) ?_
              refine lv_goto (tgt := 171) hx hb dX3_ofPart_136 (by decide) ?_
              have e1 : (1 : Int32) = (m_ofPart X (nI p) w).1 := by first | (simp [m_ofPart, mHd_w, mIn_w, mWs_w, mIs_w, mN_w, mK_w, mBo_w0, zu_zu, hcp, c_2, c_4, c_7, c_8, c_9, c_13]; done) | (simp [m_ofPart, mHd_w, mIn_w, mWs_w, mIs_w, mN_w, mK_w, mBo_w0, zu_zu, hcp, c_2, c_4, c_7, c_8, c_9, c_13, zin]; done)
              have e2 : zu X 0 0 0 = (m_ofPart X (nI p) w).2 := by first | (simp [m_ofPart, mHd_w, mIn_w, mWs_w, mIs_w, mN_w, mK_w, mBo_w0, zu_zu, hcp, c_2, c_4, c_7, c_8, c_9, c_13]; done) | (simp [m_ofPart, mHd_w, mIn_w, mWs_w, mIs_w, mN_w, mK_w, mBo_w0, zu_zu, hcp, c_2, c_4, c_7, c_8, c_9, c_13, zin]; done)
              rw [e2] at hX
              exact ze_i hx hb hr hlocks hS dX3_ofPart_171 (Nat.le_refl _) (Nat.le_refl _) () e1 hX
        · refine lv_iload_n hx hb dX3_ofPart_85 rfl (lv_at hl 2 rfl) ?_
          refine lv_iconst (v := 3) hx hb dX3_ofPart_86 (by decide) ?_
          refine lv_icmp_ne (tgt := 99) hx hb dX3_ofPart_87 (by decide) (fun c_14 => ?_) (fun c_14 => ?_)
          · refine lv_iload_n hx hb dX3_ofPart_99 rfl (lv_at hl 2 rfl) ?_
            refine lv_iconst (v := 4) hx hb dX3_ofPart_100 (by decide) ?_
            refine lv_icmp_ne (tgt := 113) hx hb dX3_ofPart_101 (by decide) (fun c_15 => ?_) (fun c_15 => ?_)
            · refine lv_aload_n hx hb dX3_ofPart_113 rfl (lv_at hl 0 rfl) ?_
              refine zx_get hx hb hown hts hK hX 8 (by decide) q1029 rfl rfl dX3_ofPart_114 ?_
              refine lv_iload_n hx hb dX3_ofPart_117 rfl (lv_at hl 1 rfl) ?_
              refine zx_ld (i := p) hx hb hK hX 8 rfl rfl (n := 60) rfl (by omega) dX3_ofPart_118 ?_
              refine zm_topi (y := X 8 p) (by simp [zu]) ?_
              have e1 : (X 8 p : Int32) = (m_ofPart X (nI p) w).1 := by first | (simp [m_ofPart, mHd_w, mIn_w, mWs_w, mIs_w, mN_w, mK_w, mBo_w0, zu_zu, hcp, c_2, c_4, c_7, c_8, c_14, c_15]; done) | (simp [m_ofPart, mHd_w, mIn_w, mWs_w, mIs_w, mN_w, mK_w, mBo_w0, zu_zu, hcp, c_2, c_4, c_7, c_8, c_14, c_15, zin]; done)
              have e2 : zu X 0 0 0 = (m_ofPart X (nI p) w).2 := by first | (simp [m_ofPart, mHd_w, mIn_w, mWs_w, mIs_w, mN_w, mK_w, mBo_w0, zu_zu, hcp, c_2, c_4, c_7, c_8, c_14, c_15]; done) | (simp [m_ofPart, mHd_w, mIn_w, mWs_w, mIs_w, mN_w, mK_w, mBo_w0, zu_zu, hcp, c_2, c_4, c_7, c_8, c_14, c_15, zin]; done)
              rw [e2] at hX
              exact ze_i hx hb hr hlocks hS dX3_ofPart_119 (Nat.le_refl _) (Nat.le_refl _) () e1 hX
            · refine lv_aload_n hx hb dX3_ofPart_104 rfl (lv_at hl 0 rfl) ?_
              refine zx_get hx hb hown hts hK hX 7 (by decide) q1028 rfl rfl dX3_ofPart_105 ?_
              refine lv_iload_n hx hb dX3_ofPart_108 rfl (lv_at hl 1 rfl) ?_
              refine zx_ld (i := p) hx hb hK hX 7 rfl rfl (n := 60) rfl (by omega) dX3_ofPart_109 ?_
              refine zm_topi (y := X 7 p) (by simp [zu]) ?_
              refine lv_goto (tgt := 119) hx hb dX3_ofPart_110 (by decide) ?_
              have e1 : (X 7 p : Int32) = (m_ofPart X (nI p) w).1 := by first | (simp [m_ofPart, mHd_w, mIn_w, mWs_w, mIs_w, mN_w, mK_w, mBo_w0, zu_zu, hcp, c_2, c_4, c_7, c_8, c_14, c_15]; done) | (simp [m_ofPart, mHd_w, mIn_w, mWs_w, mIs_w, mN_w, mK_w, mBo_w0, zu_zu, hcp, c_2, c_4, c_7, c_8, c_14, c_15, zin]; done)
              have e2 : zu X 0 0 0 = (m_ofPart X (nI p) w).2 := by first | (simp [m_ofPart, mHd_w, mIn_w, mWs_w, mIs_w, mN_w, mK_w, mBo_w0, zu_zu, hcp, c_2, c_4, c_7, c_8, c_14, c_15]; done) | (simp [m_ofPart, mHd_w, mIn_w, mWs_w, mIs_w, mN_w, mK_w, mBo_w0, zu_zu, hcp, c_2, c_4, c_7, c_8, c_14, c_15, zin]; done)
              rw [e2] at hX
              exact ze_i hx hb hr hlocks hS dX3_ofPart_119 (Nat.le_refl _) (Nat.le_refl _) () e1 hX
          · refine lv_aload_n hx hb dX3_ofPart_90 rfl (lv_at hl 0 rfl) ?_
            refine zx_get hx hb hown hts hK hX 6 (by decide) q1027 rfl rfl dX3_ofPart_91 ?_
            refine lv_iload_n hx hb dX3_ofPart_94 rfl (lv_at hl 1 rfl) ?_
            refine zx_ld (i := p) hx hb hK hX 6 rfl rfl (n := 60) rfl (by omega) dX3_ofPart_95 ?_
            refine zm_topi (y := X 6 p) (by simp [zu]) ?_
            refine lv_goto (tgt := 119) hx hb dX3_ofPart_96 (by decide) ?_
            have e1 : (X 6 p : Int32) = (m_ofPart X (nI p) w).1 := by first | (simp [m_ofPart, mHd_w, mIn_w, mWs_w, mIs_w, mN_w, mK_w, mBo_w0, zu_zu, hcp, c_2, c_4, c_7, c_8, c_14]; done) | (simp [m_ofPart, mHd_w, mIn_w, mWs_w, mIs_w, mN_w, mK_w, mBo_w0, zu_zu, hcp, c_2, c_4, c_7, c_8, c_14, zin]; done)
            have e2 : zu X 0 0 0 = (m_ofPart X (nI p) w).2 := by first | (simp [m_ofPart, mHd_w, mIn_w, mWs_w, mIs_w, mN_w, mK_w, mBo_w0, zu_zu, hcp, c_2, c_4, c_7, c_8, c_14]; done) | (simp [m_ofPart, mHd_w, mIn_w, mWs_w, mIs_w, mN_w, mK_w, mBo_w0, zu_zu, hcp, c_2, c_4, c_7, c_8, c_14, zin]; done)
            rw [e2] at hX
            exact ze_i hx hb hr hlocks hS dX3_ofPart_119 (Nat.le_refl _) (Nat.le_refl _) () e1 hX
      · refine lv_iload_n hx hb dX3_ofPart_45 rfl (lv_at hl 2 rfl) ?_
        refine lv_if_ne (tgt := 58) hx hb dX3_ofPart_46 (by decide) (fun c_16 => ?_) (fun c_16 => ?_)
        · refine lv_iload_n hx hb dX3_ofPart_58 rfl (lv_at hl 2 rfl) ?_
          refine lv_iconst (v := 1) hx hb dX3_ofPart_59 (by decide) ?_
          refine lv_icmp_ne (tgt := 72) hx hb dX3_ofPart_60 (by decide) (fun c_17 => ?_) (fun c_17 => ?_)
          · refine lv_aload_n hx hb dX3_ofPart_72 rfl (lv_at hl 0 rfl) ?_
            refine zx_get hx hb hown hts hK hX 4 (by decide) q1025 rfl rfl dX3_ofPart_73 ?_
            refine lv_iload_n hx hb dX3_ofPart_76 rfl (lv_at hl 1 rfl) ?_
            refine zx_ld (i := p) hx hb hK hX 4 rfl rfl (n := 60) rfl (by omega) dX3_ofPart_77 ?_
            refine zm_topi (y := X 4 p) (by simp [zu]) ?_
            have e1 : (X 4 p : Int32) = (m_ofPart X (nI p) w).1 := by first | (simp [m_ofPart, mHd_w, mIn_w, mWs_w, mIs_w, mN_w, mK_w, mBo_w0, zu_zu, hcp, c_2, c_4, c_7, c_16, c_17]; done) | (simp [m_ofPart, mHd_w, mIn_w, mWs_w, mIs_w, mN_w, mK_w, mBo_w0, zu_zu, hcp, c_2, c_4, c_7, c_16, c_17, zin]; done)
            have e2 : zu X 0 0 0 = (m_ofPart X (nI p) w).2 := by first | (simp [m_ofPart, mHd_w, mIn_w, mWs_w, mIs_w, mN_w, mK_w, mBo_w0, zu_zu, hcp, c_2, c_4, c_7, c_16, c_17]; done) | (simp [m_ofPart, mHd_w, mIn_w, mWs_w, mIs_w, mN_w, mK_w, mBo_w0, zu_zu, hcp, c_2, c_4, c_7, c_16, c_17, zin]; done)
            rw [e2] at hX
            exact ze_i hx hb hr hlocks hS dX3_ofPart_78 (Nat.le_refl _) (Nat.le_refl _) () e1 hX
          · refine lv_aload_n hx hb dX3_ofPart_63 rfl (lv_at hl 0 rfl) ?_
            refine zx_get hx hb hown hts hK hX 3 (by decide) q1024 rfl rfl dX3_ofPart_64 ?_
            refine lv_iload_n hx hb dX3_ofPart_67 rfl (lv_at hl 1 rfl) ?_
            refine zx_ld (i := p) hx hb hK hX 3 rfl rfl (n := 60) rfl (by omega) dX3_ofPart_68 ?_
            refine zm_topi (y := X 3 p) (by simp [zu]) ?_
            refine lv_goto (tgt := 78) hx hb dX3_ofPart_69 (by decide) ?_
            have e1 : (X 3 p : Int32) = (m_ofPart X (nI p) w).1 := by first | (simp [m_ofPart, mHd_w, mIn_w, mWs_w, mIs_w, mN_w, mK_w, mBo_w0, zu_zu, hcp, c_2, c_4, c_7, c_16, c_17]; done) | (simp [m_ofPart, mHd_w, mIn_w, mWs_w, mIs_w, mN_w, mK_w, mBo_w0, zu_zu, hcp, c_2, c_4, c_7, c_16, c_17, zin]; done)
            have e2 : zu X 0 0 0 = (m_ofPart X (nI p) w).2 := by first | (simp [m_ofPart, mHd_w, mIn_w, mWs_w, mIs_w, mN_w, mK_w, mBo_w0, zu_zu, hcp, c_2, c_4, c_7, c_16, c_17]; done) | (simp [m_ofPart, mHd_w, mIn_w, mWs_w, mIs_w, mN_w, mK_w, mBo_w0, zu_zu, hcp, c_2, c_4, c_7, c_16, c_17, zin]; done)
            rw [e2] at hX
            exact ze_i hx hb hr hlocks hS dX3_ofPart_78 (Nat.le_refl _) (Nat.le_refl _) () e1 hX
        · refine lv_aload_n hx hb dX3_ofPart_49 rfl (lv_at hl 0 rfl) ?_
          refine zx_get hx hb hown hts hK hX 2 (by decide) q1023 rfl rfl dX3_ofPart_50 ?_
          refine lv_iload_n hx hb dX3_ofPart_53 rfl (lv_at hl 1 rfl) ?_
          refine zx_ld (i := p) hx hb hK hX 2 rfl rfl (n := 60) rfl (by omega) dX3_ofPart_54 ?_
          refine zm_topi (y := X 2 p) (by simp [zu]) ?_
          refine lv_goto (tgt := 78) hx hb dX3_ofPart_55 (by decide) ?_
          have e1 : (X 2 p : Int32) = (m_ofPart X (nI p) w).1 := by first | (simp [m_ofPart, mHd_w, mIn_w, mWs_w, mIs_w, mN_w, mK_w, mBo_w0, zu_zu, hcp, c_2, c_4, c_7, c_16]; done) | (simp [m_ofPart, mHd_w, mIn_w, mWs_w, mIs_w, mN_w, mK_w, mBo_w0, zu_zu, hcp, c_2, c_4, c_7, c_16, zin]; done)
          have e2 : zu X 0 0 0 = (m_ofPart X (nI p) w).2 := by first | (simp [m_ofPart, mHd_w, mIn_w, mWs_w, mIs_w, mN_w, mK_w, mBo_w0, zu_zu, hcp, c_2, c_4, c_7, c_16]; done) | (simp [m_ofPart, mHd_w, mIn_w, mWs_w, mIs_w, mN_w, mK_w, mBo_w0, zu_zu, hcp, c_2, c_4, c_7, c_16, zin]; done)
          rw [e2] at hX
          exact ze_i hx hb hr hlocks hS dX3_ofPart_78 (Nat.le_refl _) (Nat.le_refl _) () e1 hX
  · refine lv_iconst (v := 1) hx hb dX3_ofPart_9 (by decide) ?_
    refine lv_goto (tgt := 28) hx hb dX3_ofPart_10 (by decide) ?_
    refine zx_put hx hb hown hts hK hX hS 0 (by decide) rfl q1021 rfl rfl rfl rfl dX3_ofPart_28 (fun H locs hX hS => ?_)
    refine lv_aload_n hx hb dX3_ofPart_31 rfl (lv_at hl 0 rfl) ?_
    refine zx_get hx hb hown hts hK hX 0 (by decide) q1021 rfl rfl dX3_ofPart_32 ?_
    refine zm_topi (y := 1) (by simp [zu]) ?_
    refine lv_if_le (tgt := 40) hx hb dX3_ofPart_35 (by decide) (fun c_18 => absurd c_18 (by decide)) (fun _ => ?_)
    refine lv_iconst (v := 0) hx hb dX3_ofPart_38 (by decide) ?_
    have e1 : (0 : Int32) = (m_ofPart X x w).1 := by first | (simp [m_ofPart, mHd_w, mIn_w, mWs_w, mIs_w, mN_w, mK_w, mBo_w0, zu_zu, c_2]; done) | (simp [m_ofPart, mHd_w, mIn_w, mWs_w, mIs_w, mN_w, mK_w, mBo_w0, zu_zu, c_2, zin]; done)
    have e2 : zu X 0 0 1 = (m_ofPart X x w).2 := by first | (simp [m_ofPart, mHd_w, mIn_w, mWs_w, mIs_w, mN_w, mK_w, mBo_w0, zu_zu, c_2]; done) | (simp [m_ofPart, mHd_w, mIn_w, mWs_w, mIs_w, mN_w, mK_w, mBo_w0, zu_zu, c_2, zin]; done)
    rw [e2] at hX
    exact ze_i hx hb hr hlocks hS dX3_ofPart_39 (Nat.le_refl _) (Nat.le_refl _) () e1 hX
theorem zn_X3_road : zN yX3_road 2 := by decide +kernel
set_option maxHeartbeats 4000000 in
theorem ct_X3_road (l : Launch) (g : zG) (A : Nat → Prop) (mo : Nat) (ma : Nat → Nat) (X : zX) (rr : Int32) (k0 : Int32) (hR : MR X) : Met l yX3_road (ws_ yX3_road cX3_road 3 (some .int)) (zR 2 0 0) (zP [.ref mo, .int rr, .int k0] g A (zMX g A mo ma X)) (va_Qi (fun rz_ (_ : Unit) => rz_ = (m_road X rr k0).1) (fun (_ : Unit) t => zMX g A mo ma ((m_road X rr k0).2) t.heap) A) 0 0 A := by
  refine zb_met (by decide) (Nat.le_of_ble_eq_true rfl) ?_
  intro p e s m args below meth c ls hx hb hr hml hown hts hlocks hnm hK hX ha hl
  have hown : s.vm.findClass RX3 = some m.cls := hown
  have hS : va_S A s.heap s.heap [] := va_S.rf
  have hl : lv_has ls 3 [(0, .ref mo), (1, .int rr), (2, .int k0)] := hl
  refine lv_aload_n hx hb dX3_road_0 rfl (lv_at hl 0 rfl) ?_
  refine lv_iload_n hx hb dX3_road_1 rfl (lv_at hl 1 rfl) ?_
  refine lv_iconst (v := 0) hx hb dX3_road_2 (by decide) ?_
  refine lv_iconst (v := 2) hx hb dX3_road_3 (by decide) ?_
  refine zc_i (zr_S (As := [.int rr, .int 0, .int 2]) (rest := [.ref mo]) ⟨hx, hb, hml, hown, hts⟩ (ct_X3_in l g A (zMX g A mo ma X) rr 0 2) zn_X3_in (lw_S q1130 q1131 q48 q1132) (by decide) (by decide) hK (fun _ h => h) hS hX rfl hl.1 (Nat.le_of_ble_eq_true rfl) dX3_road_4 ⟨Nat.le_refl _, Nat.le_refl _⟩) hS (fun _ h => h) (fun r _ H locs r_1 hX _ _ hS => ?_)
  subst r_1
  refine zl_ifeq (tgt := 18) hx hb dX3_road_7 (by decide) (fun c_2 => ?_) (fun c_2 => ?_)
  · refine lv_iconst (v := 1) hx hb dX3_road_18 (by decide) ?_
    refine zx_put hx hb hown hts hK hX hS 0 (by decide) rfl q1021 rfl rfl rfl rfl dX3_road_19 (fun H locs hX hS => ?_)
    refine lv_aload_n hx hb dX3_road_22 rfl (lv_at hl 0 rfl) ?_
    refine zx_get hx hb hown hts hK hX 0 (by decide) q1021 rfl rfl dX3_road_23 ?_
    refine zm_topi (y := 1) (by simp [zu]) ?_
    refine lv_if_le (tgt := 31) hx hb dX3_road_26 (by decide) (fun c_3 => absurd c_3 (by decide)) (fun _ => ?_)
    refine lv_iconst (v := 0) hx hb dX3_road_29 (by decide) ?_
    have e1 : (0 : Int32) = (m_road X rr k0).1 := by simp [m_road, c_2]
    have e2 : zu X 0 0 1 = (m_road X rr k0).2 := by simp [m_road, c_2]
    rw [e2] at hX
    exact ze_i hx hb hr hlocks hS dX3_road_30 (Nat.le_refl _) (Nat.le_refl _) () e1 hX
  · obtain ⟨r, hr4, rfl⟩ := zin_n (b := 2) rfl c_2
    have hcr : (nI r).toNatClampNeg = r := nI_clamp (by omega)
    refine lv_iload_n hx hb dX3_road_10 rfl (lv_at hl 2 rfl) ?_
    refine lv_if_lt (tgt := 18) hx hb dX3_road_11 (by decide) (fun c_4 => ?_) (fun c_4 => ?_)
    · refine lv_iconst (v := 1) hx hb dX3_road_18 (by decide) ?_
      refine zx_put hx hb hown hts hK hX hS 0 (by decide) rfl q1021 rfl rfl rfl rfl dX3_road_19 (fun H locs hX hS => ?_)
      refine lv_aload_n hx hb dX3_road_22 rfl (lv_at hl 0 rfl) ?_
      refine zx_get hx hb hown hts hK hX 0 (by decide) q1021 rfl rfl dX3_road_23 ?_
      refine zm_topi (y := 1) (by simp [zu]) ?_
      refine lv_if_le (tgt := 31) hx hb dX3_road_26 (by decide) (fun c_5 => absurd c_5 (by decide)) (fun _ => ?_)
      refine lv_iconst (v := 0) hx hb dX3_road_29 (by decide) ?_
      have e1 : (0 : Int32) = (m_road X (nI r) k0).1 := by simp [m_road, hcr, c_2, c_4]
      have e2 : zu X 0 0 1 = (m_road X (nI r) k0).2 := by simp [m_road, hcr, c_2, c_4]
      rw [e2] at hX
      exact ze_i hx hb hr hlocks hS dX3_road_30 (Nat.le_refl _) (Nat.le_refl _) () e1 hX
    · obtain ⟨k, hk31, rfl⟩ := nI_of c_4
      have hck : (nI k).toNatClampNeg = k := nI_clamp hk31
      refine lv_iconst (v := 0) hx hb dX3_road_14 (by decide) ?_
      refine lv_goto (tgt := 19) hx hb dX3_road_15 (by decide) ?_
      refine zx_put hx hb hown hts hK hX hS 0 (by decide) rfl q1021 rfl rfl rfl rfl dX3_road_19 (fun H locs hX hS => ?_)
      refine lv_aload_n hx hb dX3_road_22 rfl (lv_at hl 0 rfl) ?_
      refine zx_get hx hb hown hts hK hX 0 (by decide) q1021 rfl rfl dX3_road_23 ?_
      refine zm_topi (y := 0) (by simp [zu]) ?_
      refine lv_if_le (tgt := 31) hx hb dX3_road_26 (by decide) (fun _ => ?_) (fun c_6 => absurd (by decide) c_6)
      have hR4 := (hR r (by omega)).2.1
      refine lv_iload_n hx hb dX3_road_31 rfl (lv_at hl 2 rfl) ?_
      refine lv_aload_n hx hb dX3_road_32 rfl (lv_at hl 0 rfl) ?_
      refine zx_get hx hb hown hts hK hX 31 (by decide) q1052 rfl rfl dX3_road_33 ?_
      refine lv_iload_n hx hb dX3_road_36 rfl (lv_at hl 1 rfl) ?_
      refine zx_ld (i := r) hx hb hK hX 31 rfl rfl (n := 3) rfl (by omega) dX3_road_37 ?_
      refine zm_topi (y := X 31 r) (by simp [zu]) ?_
      refine zm_topi (y := nI (mR X r)) ((hR r (by omega)).1) ?_
      refine zl_ge (tgt := 54) (a := k) (b := mR X r) hx hb (by first | decide | omega) (by first | decide | omega) dX3_road_38 (by decide) (fun c_7 => ?_) (fun c_7 => ?_)
      · refine lv_iconst (v := (-1)) hx hb dX3_road_54 (by decide) ?_
        have e1 : ((-1) : Int32) = (m_road X (nI r) (nI k)).1 := by simp [m_road, hcr, hck, c_2, c_4, (show nI (mR X r) ≤ nI k from nI_le c_7 hk31)]
        have e2 : zu X 0 0 0 = (m_road X (nI r) (nI k)).2 := by simp [m_road, hcr, hck, c_2, c_4, (show nI (mR X r) ≤ nI k from nI_le c_7 hk31)]
        rw [e2] at hX
        exact ze_i hx hb hr hlocks hS dX3_road_55 (Nat.le_refl _) (Nat.le_refl _) () e1 hX
      · refine lv_aload_n hx hb dX3_road_41 rfl (lv_at hl 0 rfl) ?_
        refine zx_get hx hb hown hts hK hX 32 (by decide) q1053 rfl rfl dX3_road_42 ?_
        refine lv_iconst (v := 4) hx hb dX3_road_45 (by decide) ?_
        refine lv_iload_n hx hb dX3_road_46 rfl (lv_at hl 1 rfl) ?_
        refine lv_imul hx hb dX3_road_47 ?_
        refine zm_topi (y := nI (4 * r)) (pk_mul 4 r) ?_
        refine lv_iload_n hx hb dX3_road_48 rfl (lv_at hl 2 rfl) ?_
        refine lv_iadd hx hb dX3_road_49 ?_
        refine zm_topi (y := nI (4 * r + k)) (nI_add (4 * r) k) ?_
        refine zx_ld (i := 4 * r + k) hx hb hK hX 32 rfl rfl (n := 12) rfl (by omega) dX3_road_50 ?_
        refine zm_topi (y := X 32 (4 * r + k)) (by simp [zu]) ?_
        refine lv_goto (tgt := 55) hx hb dX3_road_51 (by decide) ?_
        have e1 : (X 32 (4 * r + k) : Int32) = (m_road X (nI r) (nI k)).1 := by simp [m_road, hcr, hck, c_2, c_4, (show ¬ nI (mR X r) ≤ nI k from fun q => absurd ((nI_leI (by omega) hk31).mp q) (by omega))]
        have e2 : zu X 0 0 0 = (m_road X (nI r) (nI k)).2 := by simp [m_road, hcr, hck, c_2, c_4, (show ¬ nI (mR X r) ≤ nI k from fun q => absurd ((nI_leI (by omega) hk31).mp q) (by omega))]
        rw [e2] at hX
        exact ze_i hx hb hr hlocks hS dX3_road_55 (Nat.le_refl _) (Nat.le_refl _) () e1 hX
theorem zn_X3_trace : zN yX3_trace 2 := by decide +kernel
set_option maxHeartbeats 4000000 in
theorem ct_X3_trace (l : Launch) (g : zG) (A : Nat → Prop) (mo : Nat) (ma : Nat → Nat) (X : zX) (x : Int32) (v : Int32) (hI : MH X) (hM : X 23 0 = nI (mM X) ∧ mM X < 3000) : Met l yX3_trace (ws_ yX3_trace cX3_trace 5 (some .int)) (zR 3 0 0) (zP [.ref mo, .int x, .int v] g A (zMX g A mo ma X)) (va_Qi (fun rz_ (_ : Unit) => rz_ = (m_trace X x v).1) (fun (_ : Unit) t => zMX g A mo ma ((m_trace X x v).2) t.heap) A) 0 0 A := by
  refine zb_met (by decide) (Nat.le_of_ble_eq_true rfl) ?_
  intro p e s m args below meth c ls hx hb hr hml hown hts hlocks hnm hK hX ha hl
  have hown : s.vm.findClass RX3 = some m.cls := hown
  have hS : va_S A s.heap s.heap [] := va_S.rf
  have hl : lv_has ls 5 [(0, .ref mo), (1, .int x), (2, .int v)] := hl
  have hn60 := hI.1.2
  refine lv_aload_n hx hb dX3_trace_0 rfl (lv_at hl 0 rfl) ?_
  refine lv_aload_n hx hb dX3_trace_1 rfl (lv_at hl 0 rfl) ?_
  refine lv_iload_n hx hb dX3_trace_2 rfl (lv_at hl 1 rfl) ?_
  refine zc_i (zr_V (As := [.int x]) (rest := [.ref mo]) ⟨hx, hb, hml, hown, hts⟩ (ct_X3_isPart l g A mo ma X x) zn_X3_isPart (lw_V q1142 q1144 qs16 q48 q1145) rfl (by decide) (by decide) hK (fun _ h => h) hS hX (zx_recv hK hX) rfl hl.1 (Nat.le_of_ble_eq_true rfl) dX3_trace_3 ⟨Nat.le_refl _, Nat.le_refl _⟩) hS (fun _ h => h) (fun r _ H locs r_1 hX _ _ hS => ?_)
  subst r_1
  refine zl_ifeq (tgt := 28) hx hb dX3_trace_6 (by decide) (fun c_2 => ?_) (fun c_2 => ?_)
  · refine lv_iconst (v := 1) hx hb dX3_trace_28 (by decide) ?_
    refine zx_put hx hb hown hts hK hX hS 0 (by decide) rfl q1021 rfl rfl rfl rfl dX3_trace_29 (fun H locs hX hS => ?_)
    refine lv_aload_n hx hb dX3_trace_32 rfl (lv_at hl 0 rfl) ?_
    refine zx_get hx hb hown hts hK hX 0 (by decide) q1021 rfl rfl dX3_trace_33 ?_
    refine zm_topi (y := 1) (by simp [zu]) ?_
    refine lv_if_le (tgt := 41) hx hb dX3_trace_36 (by decide) (fun c_3 => absurd c_3 (by decide)) (fun _ => ?_)
    refine lv_iconst (v := 0) hx hb dX3_trace_39 (by decide) ?_
    have e1 : (0 : Int32) = (m_trace X x v).1 := by simp [m_trace, mMp_w, c_2]
    have e2 : zu X 0 0 1 = (m_trace X x v).2 := by simp [m_trace, mMp_w, c_2]
    rw [e2] at hX
    exact ze_i hx hb hr hlocks hS dX3_trace_40 (Nat.le_refl _) (Nat.le_refl _) () e1 hX
  · obtain ⟨q, hp, rfl⟩ := mIs_t hI c_2
    have hcq : (nI q).toNatClampNeg = q := nI_clamp (by omega)
    refine lv_iload_n hx hb dX3_trace_9 rfl (lv_at hl 2 rfl) ?_
    refine lv_iconst (v := 0) hx hb dX3_trace_10 (by decide) ?_
    refine lv_aload_n hx hb dX3_trace_11 rfl (lv_at hl 0 rfl) ?_
    refine lv_iload_n hx hb dX3_trace_12 rfl (lv_at hl 1 rfl) ?_
    refine zc_i (zr_V (As := [.int (nI q)]) (rest := [.int 0, .int v, .ref mo]) ⟨hx, hb, hml, hown, hts⟩ (ct_X3_movesOfPart l g A mo ma X (nI q) hM) zn_X3_movesOfPart (lw_V q1306 q1308 qs37 q48 q1309) rfl (by decide) (by decide) hK (fun _ h => h) hS hX (zx_recv hK hX) rfl hl.1 (Nat.le_of_ble_eq_true rfl) dX3_trace_13 ⟨Nat.le_refl _, Nat.le_refl _⟩) hS (fun _ h => h) (fun r _ H locs r_4 hX _ _ hS => ?_)
    subst r_4
    refine lv_iconst (v := 1) hx hb dX3_trace_16 (by decide) ?_
    refine lv_isub hx hb dX3_trace_17 ?_
    refine zc_i (zr_S (As := [.int v, .int 0, .int ((nI (mMp X (nI q))) - 1)]) (rest := [.ref mo]) ⟨hx, hb, hml, hown, hts⟩ (ct_X3_in l g A (zMX g A mo ma X) v 0 ((nI (mMp X (nI q))) - 1)) zn_X3_in (lw_S q1130 q1131 q48 q1132) (by decide) (by decide) hK (fun _ h => h) hS hX rfl hl.1 (Nat.le_of_ble_eq_true rfl) dX3_trace_18 ⟨Nat.le_refl _, Nat.le_refl _⟩) hS (fun _ h => h) (fun r _ H locs r_5 hX _ _ hS => ?_)
    subst r_5
    refine zl_ifeq (tgt := 28) hx hb dX3_trace_21 (by decide) (fun c_6 => ?_) (fun c_6 => ?_)
    · refine lv_iconst (v := 1) hx hb dX3_trace_28 (by decide) ?_
      refine zx_put hx hb hown hts hK hX hS 0 (by decide) rfl q1021 rfl rfl rfl rfl dX3_trace_29 (fun H locs hX hS => ?_)
      refine lv_aload_n hx hb dX3_trace_32 rfl (lv_at hl 0 rfl) ?_
      refine zx_get hx hb hown hts hK hX 0 (by decide) q1021 rfl rfl dX3_trace_33 ?_
      refine zm_topi (y := 1) (by simp [zu]) ?_
      refine lv_if_le (tgt := 41) hx hb dX3_trace_36 (by decide) (fun c_7 => absurd c_7 (by decide)) (fun _ => ?_)
      refine lv_iconst (v := 0) hx hb dX3_trace_39 (by decide) ?_
      have e1 : (0 : Int32) = (m_trace X (nI q) v).1 := by simp [m_trace, mMp_w, hcq, c_2, c_6]
      have e2 : zu X 0 0 1 = (m_trace X (nI q) v).2 := by simp [m_trace, mMp_w, hcq, c_2, c_6]
      rw [e2] at hX
      exact ze_i hx hb hr hlocks hS dX3_trace_40 (Nat.le_refl _) (Nat.le_refl _) () e1 hX
    · have hM0 := hM.2
      have hMp : mMp X (nI q) ≤ mM X := zct_le _ _
      obtain ⟨k, hkk, rfl⟩ := zin_m (by omega) c_6
      have hck : (nI k).toNatClampNeg = k := nI_clamp (by omega)
      refine lv_iconst (v := 0) hx hb dX3_trace_24 (by decide) ?_
      refine lv_goto (tgt := 29) hx hb dX3_trace_25 (by decide) ?_
      refine zx_put hx hb hown hts hK hX hS 0 (by decide) rfl q1021 rfl rfl rfl rfl dX3_trace_29 (fun H locs hX hS => ?_)
      refine lv_aload_n hx hb dX3_trace_32 rfl (lv_at hl 0 rfl) ?_
      refine zx_get hx hb hown hts hK hX 0 (by decide) q1021 rfl rfl dX3_trace_33 ?_
      refine zm_topi (y := 0) (by simp [zu]) ?_
      refine lv_if_le (tgt := 41) hx hb dX3_trace_36 (by decide) (fun _ => ?_) (fun c_8 => absurd (by decide) c_8)
      refine lv_iload_n hx hb dX3_trace_41 rfl (lv_at hl 2 rfl) ?_
      refine lv_istore_n (lv' := [(3, .int (nI k)), (0, .ref mo), (1, .int (nI q)), (2, .int (nI k))]) hx hb dX3_trace_42 rfl hl (by decide) rfl (fun ls hl => ?_)
      refine lv_iconst (v := 0) hx hb dX3_trace_43 (by decide) ?_
      refine lv_istore (lv' := [(4, .int 0), (3, .int (nI k)), (0, .ref mo), (1, .int (nI q)), (2, .int (nI k))]) hx hb dX3_trace_44 hl (by decide) rfl (fun ls hl => ?_)
      have L_10 : ∀ (n_9 : Nat) (a : Nat), mM X + 1 - a < n_9 → (zct (mMf X (nI q)) a ≤ k) → (a ≤ mM X) → (zfi (mTg X (nI q) k) (mM X - a) a = zfi (mTg X (nI q) k) (mM X) 0) → ∀ (H : Heap) (locs : List Loc) (ls : Array Slot), zMX g A mo ma (zu X 0 0 0) H → va_S A s.heap H locs → lv_has ls 5 [(4, .int (nI a)), (3, .int (nI (k - zct (mMf X (nI q)) a))), (0, .ref mo), (1, .int (nI q)), (2, .int (nI k))] → W p l e (zR 3 0 0) s m args below meth c H locs 0 0 (MQ below (va_Qi (fun rz_ (_ : Unit) => rz_ = (m_trace X (nI q) (nI k)).1) (fun (_ : Unit) t => zMX g A mo ma ((m_trace X (nI q) (nI k)).2) t.heap) A) args s 0 0 A) (F0 m 46 ls []) := by
        intro n_9
        induction n_9 with
        | zero => intro a hm; exact absurd hm (Nat.not_lt_zero _)
        | succ n_9 ih =>
          intro a hm ha1 ha2 ha3 H locs ls hX hS hl
          have ih_11 := ih
          have hal : a < mM X := by
            rcases Nat.lt_or_ge a (mM X) with q | q
            · exact q
            · have q3 : a = mM X := by omega
              rw [q3] at ha1; exact absurd hkk (by unfold mMp; omega)
          refine lv_aload_n hx hb dX3_trace_46 rfl (lv_at hl 2 rfl) ?_
          refine zx_get hx hb hown hts hK hX 24 (by decide) q1045 rfl rfl dX3_trace_47 ?_
          refine lv_iload hx hb dX3_trace_50 (lv_at hl 0 rfl) ?_
          refine zx_ld (i := a) hx hb hK hX 24 rfl rfl (n := 4000) rfl (by omega) dX3_trace_52 ?_
          refine zm_topi (y := X 24 a) (by simp [zu]) ?_
          refine lv_iload_n hx hb dX3_trace_53 rfl (lv_at hl 3 rfl) ?_
          refine lv_icmp_ne (tgt := 61) hx hb dX3_trace_54 (by decide) (fun c_12 => ?_) (fun c_12 => ?_)
          · refine lv_iload_n hx hb dX3_trace_61 rfl (lv_at hl 1 rfl) ?_
            refine lv_aload_n hx hb dX3_trace_62 rfl (lv_at hl 2 rfl) ?_
            refine zx_get hx hb hown hts hK hX 24 (by decide) q1045 rfl rfl dX3_trace_63 ?_
            refine lv_iload hx hb dX3_trace_66 (lv_at hl 0 rfl) ?_
            refine zx_ld (i := a) hx hb hK hX 24 rfl rfl (n := 4000) rfl (by omega) dX3_trace_68 ?_
            refine zm_topi (y := X 24 a) (by simp [zu]) ?_
            refine lv_iload_n hx hb dX3_trace_69 rfl (lv_at hl 3 rfl) ?_
            refine lv_icmp_ne (tgt := 77) hx hb dX3_trace_70 (by decide) (fun _ => ?_) (fun c_13 => absurd c_13 c_12)
            refine lv_iconst (v := 0) hx hb dX3_trace_77 (by decide) ?_
            refine lv_isub hx hb dX3_trace_78 ?_
            have hq : mMf X (nI q) a = false := by simp [mMf, c_12]
            have hz9 : zct (mMf X (nI q)) (a + 1) = zct (mMf X (nI q)) a := by simp [zct, hq]
            have hs1 : zct (mMf X (nI q)) (a + 1) ≤ k := by omega
            have hs3 : zfi (mTg X (nI q) k) (mM X - (a + 1)) (a + 1) = zfi (mTg X (nI q) k) (mM X) 0 := by rw [← ha3, show mM X - a = (mM X - (a + 1)) + 1 by omega, zfi_n (by simp [mTg, hq])]
            refine zm_topi (y := nI (k - zct (mMf X (nI q)) (a + 1))) (by rw [hz9]; simp) ?_
            refine lv_istore_n (lv' := [(3, .int (nI (k - zct (mMf X (nI q)) (a + 1)))), (4, .int (nI a)), (0, .ref mo), (1, .int (nI q)), (2, .int (nI k))]) hx hb dX3_trace_79 rfl hl (by decide) rfl (fun ls hl => ?_)
            refine lv_iinc (v := nI (a + 1)) (lv' := [(4, .int (nI (a + 1))), (3, .int (nI (k - zct (mMf X (nI q)) (a + 1)))), (0, .ref mo), (1, .int (nI q)), (2, .int (nI k))]) hx hb dX3_trace_80 hl (k := 1) rfl (nI_1 a) (by decide) rfl (fun ls hl => ?_)
            refine lv_goto (tgt := 46) hx hb dX3_trace_83 (by decide) ?_
            exact ih_11 (a + 1) (by omega) hs1 (by omega) hs3 _ _ _ hX hS (lv_sub hl [0, 1, 2, 3, 4] rfl)
          · refine lv_iload_n hx hb dX3_trace_57 rfl (lv_at hl 1 rfl) ?_
            refine zl_ifle0 (tgt := 86) (a := k - zct (mMf X (nI q)) a) hx hb (by first | decide | omega) dX3_trace_58 (by decide) (fun c_14 => ?_) (fun c_14 => ?_)
            · refine lv_aload_n hx hb dX3_trace_86 rfl (lv_at hl 2 rfl) ?_
              refine zx_get hx hb hown hts hK hX 25 (by decide) q1046 rfl rfl dX3_trace_87 ?_
              refine lv_iload hx hb dX3_trace_90 (lv_at hl 0 rfl) ?_
              refine zx_ld (i := a) hx hb hK hX 25 rfl rfl (n := 4000) rfl (by omega) dX3_trace_92 ?_
              refine zm_topi (y := X 25 a) (by simp [zu]) ?_
              have e1 : (X 25 a : Int32) = (m_trace X (nI q) (nI k)).1 := by have hg : mTg X (nI q) k a = true := (by simp [mTg, mMf, c_12]; omega); have hf9 : zfi (mTg X (nI q) k) (mM X) 0 = some a := (by rw [← ha3, show mM X - a = (mM X - (a + 1)) + 1 by omega]; unfold zfi; rw [if_pos hg]); simp [m_trace, mTr, hf9, hcq, hck, c_2, c_6]
              have e2 : zu X 0 0 0 = (m_trace X (nI q) (nI k)).2 := by simp [m_trace, mMp_w, hcq, hck, c_2, c_6]
              rw [e2] at hX
              exact ze_i hx hb hr hlocks hS dX3_trace_93 (Nat.le_refl _) (Nat.le_refl _) () e1 hX
            · refine lv_iload_n hx hb dX3_trace_61 rfl (lv_at hl 1 rfl) ?_
              refine lv_aload_n hx hb dX3_trace_62 rfl (lv_at hl 2 rfl) ?_
              refine zx_get hx hb hown hts hK hX 24 (by decide) q1045 rfl rfl dX3_trace_63 ?_
              refine lv_iload hx hb dX3_trace_66 (lv_at hl 0 rfl) ?_
              refine zx_ld (i := a) hx hb hK hX 24 rfl rfl (n := 4000) rfl (by omega) dX3_trace_68 ?_
              refine zm_topi (y := X 24 a) (by simp [zu]) ?_
              refine lv_iload_n hx hb dX3_trace_69 rfl (lv_at hl 3 rfl) ?_
              refine lv_icmp_ne (tgt := 77) hx hb dX3_trace_70 (by decide) (fun c_15 => absurd c_12 c_15) (fun _ => ?_)
              refine lv_iconst (v := 1) hx hb dX3_trace_73 (by decide) ?_
              refine lv_goto (tgt := 78) hx hb dX3_trace_74 (by decide) ?_
              refine lv_isub hx hb dX3_trace_78 ?_
              have hq : mMf X (nI q) a = true := by simp [mMf, c_12]
              have hz9 : zct (mMf X (nI q)) (a + 1) = zct (mMf X (nI q)) a + 1 := by simp [zct, hq]
              have hs1 : zct (mMf X (nI q)) (a + 1) ≤ k := by omega
              have hs3 : zfi (mTg X (nI q) k) (mM X - (a + 1)) (a + 1) = zfi (mTg X (nI q) k) (mM X) 0 := by rw [← ha3, show mM X - a = (mM X - (a + 1)) + 1 by omega, zfi_n (by simp [mTg]; intro _; omega)]
              refine zm_topi (y := nI (k - zct (mMf X (nI q)) (a + 1))) (by rw [hz9, ← Nat.sub_sub]; exact pk_sub (b := 1) (by omega)) ?_
              refine lv_istore_n (lv' := [(3, .int (nI (k - zct (mMf X (nI q)) (a + 1)))), (4, .int (nI a)), (0, .ref mo), (1, .int (nI q)), (2, .int (nI k))]) hx hb dX3_trace_79 rfl hl (by decide) rfl (fun ls hl => ?_)
              refine lv_iinc (v := nI (a + 1)) (lv' := [(4, .int (nI (a + 1))), (3, .int (nI (k - zct (mMf X (nI q)) (a + 1)))), (0, .ref mo), (1, .int (nI q)), (2, .int (nI k))]) hx hb dX3_trace_80 hl (k := 1) rfl (nI_1 a) (by decide) rfl (fun ls hl => ?_)
              refine lv_goto (tgt := 46) hx hb dX3_trace_83 (by decide) ?_
              exact ih_11 (a + 1) (by omega) hs1 (by omega) hs3 _ _ _ hX hS (lv_sub hl [0, 1, 2, 3, 4] rfl)
      exact L_10 ((mM X + 1 - 0) + 1) 0 (Nat.lt_succ_self _) (Nat.zero_le _) (Nat.zero_le _) rfl _ _ _ hX hS (lv_sub hl [0, 1, 2, 3, 4] rfl)
