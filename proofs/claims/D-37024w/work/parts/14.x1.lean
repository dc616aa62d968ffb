/-! THE REFERENCE's METHODS, 1: their contracts -/
theorem zn_X3_in : zN yX3_in 3 := by decide +kernel
set_option maxHeartbeats 4000000 in
theorem ct_X3_in (l : Launch) (g : zG) (A : Nat → Prop) (B : Heap → Prop) (v : Int32) (lo : Int32) (hi : Int32) : Met l yX3_in (ws_ yX3_in cX3_in 3 (some .boolean)) (zR 1 0 0) (zP [.int v, .int lo, .int hi] g A B) (va_Qi (fun rz_ (_ : Unit) => rz_ = zb (zin v lo hi)) (fun (_ : Unit) t => B t.heap) A) 0 0 A := by
  refine zb_met (by decide) (Nat.le_of_ble_eq_true rfl) ?_
  intro p e s m args below meth c ls hx hb hr hml hown hts hlocks hnm hK hB ha hl
  have hown : s.vm.findClass RX3 = some m.cls := hown
  have hS : va_S A s.heap s.heap [] := va_S.rf
  have hl : lv_has ls 3 [(0, .int v), (1, .int lo), (2, .int hi)] := hl
  refine lv_iload_n hx hb dX3_in_0 rfl (lv_at hl 0 rfl) ?_
  refine lv_iload_n hx hb dX3_in_1 rfl (lv_at hl 1 rfl) ?_
  refine lv_icmp_lt (tgt := 14) hx hb dX3_in_2 (by decide) (fun c_1 => ?_) (fun c_1 => ?_)
  · refine lv_iconst (v := 0) hx hb dX3_in_14 (by decide) ?_
    have e1 : (0 : Int32) = zb (zin v lo hi) := by rw [zin, decide_eq_false (fun q => Int32.not_lt.mpr q.1 c_1)]; rfl
    exact ze_z hx hb hr hlocks hS dX3_in_15 (Nat.le_refl _) (Nat.le_refl _) (Or.inl rfl) () e1 hB
  · refine lv_iload_n hx hb dX3_in_5 rfl (lv_at hl 0 rfl) ?_
    refine lv_iload_n hx hb dX3_in_6 rfl (lv_at hl 2 rfl) ?_
    refine lv_icmp_gt (tgt := 14) hx hb dX3_in_7 (by decide) (fun c_2 => ?_) (fun c_2 => ?_)
    · refine lv_iconst (v := 0) hx hb dX3_in_14 (by decide) ?_
      have e1 : (0 : Int32) = zb (zin v lo hi) := by first | (rw [zin, decide_eq_true ⟨Int32.not_lt.mp c_1, Int32.not_lt.mp c_2⟩]; rfl) | (rw [zin, decide_eq_false (fun q => Int32.not_lt.mpr q.2 c_2)]; rfl)
      exact ze_z hx hb hr hlocks hS dX3_in_15 (Nat.le_refl _) (Nat.le_refl _) (Or.inl rfl) () e1 hB
    · refine lv_iconst (v := 1) hx hb dX3_in_10 (by decide) ?_
      refine lv_goto (tgt := 15) hx hb dX3_in_11 (by decide) ?_
      have e1 : (1 : Int32) = zb (zin v lo hi) := by first | (rw [zin, decide_eq_true ⟨Int32.not_lt.mp c_1, Int32.not_lt.mp c_2⟩]; rfl) | (rw [zin, decide_eq_false (fun q => Int32.not_lt.mpr q.2 c_2)]; rfl)
      exact ze_z hx hb hr hlocks hS dX3_in_15 (Nat.le_refl _) (Nat.le_refl _) (Or.inr rfl) () e1 hB
theorem zn_X3_isPart : zN yX3_isPart 1 := by decide +kernel
set_option maxHeartbeats 4000000 in
theorem ct_X3_isPart (l : Launch) (g : zG) (A : Nat → Prop) (mo : Nat) (ma : Nat → Nat) (X : zX) (x : Int32) : Met l yX3_isPart (ws_ yX3_isPart cX3_isPart 2 (some .boolean)) (zR 2 0 0) (zP [.ref mo, .int x] g A (zMX g A mo ma X)) (va_Qi (fun rz_ (_ : Unit) => rz_ = zb (mIs X x)) (fun (_ : Unit) t => zMX g A mo ma X t.heap) A) 0 0 A := by
  refine zb_met (by decide) (Nat.le_of_ble_eq_true rfl) ?_
  intro p e s m args below meth c ls hx hb hr hml hown hts hlocks hnm hK hX ha hl
  have hown : s.vm.findClass RX3 = some m.cls := hown
  have hS : va_S A s.heap s.heap [] := va_S.rf
  have hl : lv_has ls 2 [(0, .ref mo), (1, .int x)] := hl
  refine lv_iload_n hx hb dX3_isPart_0 rfl (lv_at hl 1 rfl) ?_
  refine lv_iconst (v := 0) hx hb dX3_isPart_1 (by decide) ?_
  refine lv_aload_n hx hb dX3_isPart_2 rfl (lv_at hl 0 rfl) ?_
  refine zx_get hx hb hown hts hK hX 1 (by decide) q1022 rfl rfl dX3_isPart_3 ?_
  refine lv_iconst (v := 1) hx hb dX3_isPart_6 (by decide) ?_
  refine lv_isub hx hb dX3_isPart_7 ?_
  refine zc_i (zr_S (As := [.int x, .int 0, .int ((X 1 0) - 1)]) (rest := []) ⟨hx, hb, hml, hown, hts⟩ (ct_X3_in l g A (zMX g A mo ma X) x 0 ((X 1 0) - 1)) zn_X3_in (lw_S q1130 q1131 q48 q1132) (by decide) (by decide) hK (fun _ h => h) hS hX rfl hl.1 (Nat.le_of_ble_eq_true rfl) dX3_isPart_8 ⟨Nat.le_refl _, Nat.le_refl _⟩) hS (fun _ h => h) (fun r _ H locs r_1 hX _ _ hS => ?_)
  subst r_1
  have e1 : (zb (zin x 0 ((X 1 0) - 1)) : Int32) = zb (mIs X x) := by first | rfl | (simp [])
  exact ze_z hx hb hr hlocks hS dX3_isPart_11 (Nat.le_refl _) (Nat.le_refl _) (zb_or _) () e1 hX
theorem zn_X3_thrown : zN yX3_thrown 0 := by decide +kernel
set_option maxHeartbeats 4000000 in
theorem ct_X3_thrown (l : Launch) (g : zG) (A : Nat → Prop) (mo : Nat) (ma : Nat → Nat) (X : zX)  : Met l yX3_thrown (ws_ yX3_thrown cX3_thrown 1 (some .int)) (zR 1 0 0) (zP [.ref mo] g A (zMX g A mo ma X)) (va_Qi (fun rz_ (_ : Unit) => rz_ = X 0 0) (fun (_ : Unit) t => zMX g A mo ma X t.heap) A) 0 0 A := by
  refine zb_met (by decide) (Nat.le_of_ble_eq_true rfl) ?_
  intro p e s m args below meth c ls hx hb hr hml hown hts hlocks hnm hK hX ha hl
  have hown : s.vm.findClass RX3 = some m.cls := hown
  have hS : va_S A s.heap s.heap [] := va_S.rf
  have hl : lv_has ls 1 [(0, .ref mo)] := hl
  refine lv_aload_n hx hb dX3_thrown_0 rfl (lv_at hl 0 rfl) ?_
  refine zx_get hx hb hown hts hK hX 0 (by decide) q1021 rfl rfl dX3_thrown_1 ?_
  have e1 : (X 0 0 : Int32) = X 0 0 := by first | rfl | (simp [])
  exact ze_i hx hb hr hlocks hS dX3_thrown_4 (Nat.le_refl _) (Nat.le_refl _) () e1 hX
theorem zn_X3_kindCode : zN yX3_kindCode 2 := by decide +kernel
set_option maxHeartbeats 4000000 in
theorem ct_X3_kindCode (l : Launch) (g : zG) (A : Nat → Prop) (mo : Nat) (ma : Nat → Nat) (X : zX) (x : Int32) (k : Int32) (hI : MH X) : Met l yX3_kindCode (ws_ yX3_kindCode cX3_kindCode 3 (some .int)) (zR 3 0 0) (zP [.ref mo, .int x, .int k] g A (zMX g A mo ma X)) (va_Qi (fun rz_ (_ : Unit) => rz_ = mKc X x k) (fun (_ : Unit) t => zMX g A mo ma X t.heap) A) 0 0 A := by
  refine zb_met (by decide) (Nat.le_of_ble_eq_true rfl) ?_
  intro p e s m args below meth c ls hx hb hr hml hown hts hlocks hnm hK hX ha hl
  have hown : s.vm.findClass RX3 = some m.cls := hown
  have hS : va_S A s.heap s.heap [] := va_S.rf
  have hl : lv_has ls 3 [(0, .ref mo), (1, .int x), (2, .int k)] := hl
  have hn60 := hI.1.2
  refine lv_aload_n hx hb dX3_kindCode_0 rfl (lv_at hl 0 rfl) ?_
  refine lv_iload_n hx hb dX3_kindCode_1 rfl (lv_at hl 1 rfl) ?_
  refine zc_i (zr_V (As := [.int x]) (rest := []) ⟨hx, hb, hml, hown, hts⟩ (ct_X3_isPart l g A mo ma X x) zn_X3_isPart (lw_V q1142 q1144 qs16 q48 q1145) rfl (by decide) (by decide) hK (fun _ h => h) hS hX (zx_recv hK hX) rfl hl.1 (Nat.le_of_ble_eq_true rfl) dX3_kindCode_2 ⟨Nat.le_refl _, Nat.le_refl _⟩) hS (fun _ h => h) (fun r _ H locs r_1 hX _ _ hS => ?_)
  subst r_1
  refine zl_ifne (tgt := 12) hx hb dX3_kindCode_5 (by decide) (fun c_2 => ?_) (fun c_2 => ?_)
  · obtain ⟨p, hp, rfl⟩ := mIs_t hI c_2
    refine lv_aload_n hx hb dX3_kindCode_12 rfl (lv_at hl 0 rfl) ?_
    refine zx_get hx hb hown hts hK hX 2 (by decide) q1023 rfl rfl dX3_kindCode_13 ?_
    refine lv_iload_n hx hb dX3_kindCode_16 rfl (lv_at hl 1 rfl) ?_
    refine zx_ld (i := p) hx hb hK hX 2 rfl rfl (n := 60) rfl (by omega) dX3_kindCode_17 ?_
    refine lv_iload_n hx hb dX3_kindCode_18 rfl (lv_at hl 2 rfl) ?_
    refine lv_icmp_ne (tgt := 26) hx hb dX3_kindCode_19 (by decide) (fun c_3 => ?_) (fun c_3 => ?_)
    · refine lv_iconst (v := 2) hx hb dX3_kindCode_26 (by decide) ?_
      have e1 : (2 : Int32) = mKc X (nI p) k := by unfold mKc; rw [if_neg (by rw [c_2]; decide), nI_clamp (by omega)]; first | rw [if_pos c_3] | rw [if_neg c_3]
      exact ze_i hx hb hr hlocks hS dX3_kindCode_27 (Nat.le_refl _) (Nat.le_refl _) () e1 hX
    · refine lv_iconst (v := 0) hx hb dX3_kindCode_22 (by decide) ?_
      refine lv_goto (tgt := 27) hx hb dX3_kindCode_23 (by decide) ?_
      have e1 : (0 : Int32) = mKc X (nI p) k := by unfold mKc; rw [if_neg (by rw [c_2]; decide), nI_clamp (by omega)]; first | rw [if_pos c_3] | rw [if_neg c_3]
      exact ze_i hx hb hr hlocks hS dX3_kindCode_27 (Nat.le_refl _) (Nat.le_refl _) () e1 hX
  · refine lv_iconst (v := 1) hx hb dX3_kindCode_8 (by decide) ?_
    refine lv_goto (tgt := 27) hx hb dX3_kindCode_9 (by decide) ?_
    have e1 : (1 : Int32) = mKc X x k := by unfold mKc; rw [if_pos c_2]
    exact ze_i hx hb hr hlocks hS dX3_kindCode_27 (Nat.le_refl _) (Nat.le_refl _) () e1 hX
theorem zn_X3_part : zN yX3_part 3 := by decide +kernel
set_option maxHeartbeats 4000000 in
theorem ct_X3_part (l : Launch) (g : zG) (A : Nat → Prop) (mo : Nat) (ma : Nat → Nat) (X : zX) (k : Int32) (a : Int32) (d : Int32) (hI : MH X) : Met l yX3_part (ws_ yX3_part cX3_part 4 (some .int)) (zR 2 0 0) (zP [.ref mo, .int k, .int a, .int d] g A (zMX g A mo ma X)) (va_Qi (fun rz_ (_ : Unit) => rz_ = (m_part X k a d).1) (fun (_ : Unit) t => zMX g A mo ma ((m_part X k a d).2) t.heap) A) 0 0 A := by
  refine zb_met (by decide) (Nat.le_of_ble_eq_true rfl) ?_
  intro p e s m args below meth c ls hx hb hr hml hown hts hlocks hnm hK hX ha hl
  have hown : s.vm.findClass RX3 = some m.cls := hown
  have hS : va_S A s.heap s.heap [] := va_S.rf
  have hl : lv_has ls 4 [(0, .ref mo), (1, .int k), (2, .int a), (3, .int d)] := hl
  have hn60 := hI.1.2
  refine lv_aload_n hx hb dX3_part_0 rfl (lv_at hl 0 rfl) ?_
  refine lv_iload_n hx hb dX3_part_1 rfl (lv_at hl 1 rfl) ?_
  refine lv_iconst (v := 0) hx hb dX3_part_2 (by decide) ?_
  refine lv_iconst (v := 4) hx hb dX3_part_3 (by decide) ?_
  refine zc_i (zr_S (As := [.int k, .int 0, .int 4]) (rest := [.ref mo]) ⟨hx, hb, hml, hown, hts⟩ (ct_X3_in l g A (zMX g A mo ma X) k 0 4) zn_X3_in (lw_S q1130 q1131 q48 q1132) (by decide) (by decide) hK (fun _ h => h) hS hX rfl hl.1 (Nat.le_of_ble_eq_true rfl) dX3_part_4 ⟨Nat.le_refl _, Nat.le_refl _⟩) hS (fun _ h => h) (fun r _ H locs r_1 hX _ _ hS => ?_)
  subst r_1
  refine zl_ifeq (tgt := 29) hx hb dX3_part_7 (by decide) (fun c_2 => ?_) (fun c_2 => ?_)
  · refine lv_iconst (v := 1) hx hb dX3_part_29 (by decide) ?_
    refine lv_goto (tgt := 47) hx hb dX3_part_30 (by decide) ?_
    refine zx_put hx hb hown hts hK hX hS 0 (by decide) rfl q1021 rfl rfl rfl rfl dX3_part_47 (fun H locs hX hS => ?_)
    refine lv_aload_n hx hb dX3_part_50 rfl (lv_at hl 0 rfl) ?_
    refine zx_get hx hb hown hts hK hX 0 (by decide) q1021 rfl rfl dX3_part_51 ?_
    refine zm_topi (y := 1) (by simp [zu]) ?_
    refine lv_if_le (tgt := 59) hx hb dX3_part_54 (by decide) (fun c_3 => absurd c_3 (by decide)) (fun _ => ?_)
    refine lv_iconst (v := 0) hx hb dX3_part_57 (by decide) ?_
    have e1 : (0 : Int32) = (m_part X k a d).1 := by first | rfl | (simp [m_part, nI_pred, c_2])
    have e2 : zu X 0 0 1 = (m_part X k a d).2 := by first | rfl | (simp [m_part, nI_pred, c_2])
    rw [e2] at hX
    exact ze_i hx hb hr hlocks hS dX3_part_58 (Nat.le_refl _) (Nat.le_refl _) () e1 hX
  · refine lv_iload_n hx hb dX3_part_10 rfl (lv_at hl 2 rfl) ?_
    refine lv_iconst (v := 0) hx hb dX3_part_11 (by decide) ?_
    refine lv_bipush (v := 9) hx hb dX3_part_12 (by decide) ?_
    refine zc_i (zr_S (As := [.int a, .int 0, .int 9]) (rest := [.ref mo]) ⟨hx, hb, hml, hown, hts⟩ (ct_X3_in l g A (zMX g A mo ma X) a 0 9) zn_X3_in (lw_S q1130 q1131 q48 q1132) (by decide) (by decide) hK (fun _ h => h) hS hX rfl hl.1 (Nat.le_of_ble_eq_true rfl) dX3_part_14 ⟨Nat.le_refl _, Nat.le_refl _⟩) hS (fun _ h => h) (fun r _ H locs r_4 hX _ _ hS => ?_)
    subst r_4
    refine zl_ifeq (tgt := 29) hx hb dX3_part_17 (by decide) (fun c_5 => ?_) (fun c_5 => ?_)
    · refine lv_iconst (v := 1) hx hb dX3_part_29 (by decide) ?_
      refine lv_goto (tgt := 47) hx hb dX3_part_30 (by decide) ?_
      refine zx_put hx hb hown hts hK hX hS 0 (by decide) rfl q1021 rfl rfl rfl rfl dX3_part_47 (fun H locs hX hS => ?_)
      refine lv_aload_n hx hb dX3_part_50 rfl (lv_at hl 0 rfl) ?_
      refine zx_get hx hb hown hts hK hX 0 (by decide) q1021 rfl rfl dX3_part_51 ?_
      refine zm_topi (y := 1) (by simp [zu]) ?_
      refine lv_if_le (tgt := 59) hx hb dX3_part_54 (by decide) (fun c_6 => absurd c_6 (by decide)) (fun _ => ?_)
      refine lv_iconst (v := 0) hx hb dX3_part_57 (by decide) ?_
      have e1 : (0 : Int32) = (m_part X k a d).1 := by first | rfl | (simp [m_part, nI_pred, c_2, c_5])
      have e2 : zu X 0 0 1 = (m_part X k a d).2 := by first | rfl | (simp [m_part, nI_pred, c_2, c_5])
      rw [e2] at hX
      exact ze_i hx hb hr hlocks hS dX3_part_58 (Nat.le_refl _) (Nat.le_refl _) () e1 hX
    · refine lv_iload_n hx hb dX3_part_20 rfl (lv_at hl 3 rfl) ?_
      refine lv_iconst (v := 0) hx hb dX3_part_21 (by decide) ?_
      refine lv_iconst (v := 3) hx hb dX3_part_22 (by decide) ?_
      refine zc_i (zr_S (As := [.int d, .int 0, .int 3]) (rest := [.ref mo]) ⟨hx, hb, hml, hown, hts⟩ (ct_X3_in l g A (zMX g A mo ma X) d 0 3) zn_X3_in (lw_S q1130 q1131 q48 q1132) (by decide) (by decide) hK (fun _ h => h) hS hX rfl hl.1 (Nat.le_of_ble_eq_true rfl) dX3_part_23 ⟨Nat.le_refl _, Nat.le_refl _⟩) hS (fun _ h => h) (fun r _ H locs r_7 hX _ _ hS => ?_)
      subst r_7
      refine zl_ifne (tgt := 33) hx hb dX3_part_26 (by decide) (fun c_8 => ?_) (fun c_8 => ?_)
      · refine lv_aload_n hx hb dX3_part_33 rfl (lv_at hl 0 rfl) ?_
        refine zx_get hx hb hown hts hK hX 1 (by decide) q1022 rfl rfl dX3_part_34 ?_
        refine zm_topi (y := nI (mN X)) (hI.1.1) ?_
        refine lv_bipush (v := 60) hx hb dX3_part_37 (by decide) ?_
        refine zl_ne (tgt := 46) (a := mN X) (b := 60) hx hb (by first | decide | omega) (by first | decide | omega) dX3_part_39 (by decide) (fun c_9 => ?_) (fun c_9 => ?_)
        · refine lv_iconst (v := 0) hx hb dX3_part_46 (by decide) ?_
          refine zx_put hx hb hown hts hK hX hS 0 (by decide) rfl q1021 rfl rfl rfl rfl dX3_part_47 (fun H locs hX hS => ?_)
          refine lv_aload_n hx hb dX3_part_50 rfl (lv_at hl 0 rfl) ?_
          refine zx_get hx hb hown hts hK hX 0 (by decide) q1021 rfl rfl dX3_part_51 ?_
          refine zm_topi (y := 0) (by simp [zu]) ?_
          refine lv_if_le (tgt := 59) hx hb dX3_part_54 (by decide) (fun _ => ?_) (fun c_10 => absurd (by decide) c_10)
          have hlt : mN X < 60 := by omega
          refine lv_aload_n hx hb dX3_part_59 rfl (lv_at hl 0 rfl) ?_
          refine zx_get hx hb hown hts hK hX 2 (by decide) q1023 rfl rfl dX3_part_60 ?_
          refine lv_aload_n hx hb dX3_part_63 rfl (lv_at hl 0 rfl) ?_
          refine zx_get hx hb hown hts hK hX 1 (by decide) q1022 rfl rfl dX3_part_64 ?_
          refine zm_topi (y := X 1 0) (by simp [zu]) ?_
          refine zm_topi (y := nI (mN X)) (hI.1.1) ?_
          refine lv_iload_n hx hb dX3_part_67 rfl (lv_at hl 1 rfl) ?_
          refine zx_st (i := mN X) hx hb hK hX hS 2 rfl rfl (n := 60) rfl (by omega) dX3_part_68 (fun H locs hX hS => ?_)
          refine lv_aload_n hx hb dX3_part_69 rfl (lv_at hl 0 rfl) ?_
          refine zx_get hx hb hown hts hK hX 3 (by decide) q1024 rfl rfl dX3_part_70 ?_
          refine lv_aload_n hx hb dX3_part_73 rfl (lv_at hl 0 rfl) ?_
          refine zx_get hx hb hown hts hK hX 1 (by decide) q1022 rfl rfl dX3_part_74 ?_
          refine zm_topi (y := X 1 0) (by simp [zu]) ?_
          refine zm_topi (y := nI (mN X)) (hI.1.1) ?_
          refine lv_iload_n hx hb dX3_part_77 rfl (lv_at hl 2 rfl) ?_
          refine zx_st (i := mN X) hx hb hK hX hS 3 rfl rfl (n := 60) rfl (by omega) dX3_part_78 (fun H locs hX hS => ?_)
          refine lv_aload_n hx hb dX3_part_79 rfl (lv_at hl 0 rfl) ?_
          refine zx_get hx hb hown hts hK hX 4 (by decide) q1025 rfl rfl dX3_part_80 ?_
          refine lv_aload_n hx hb dX3_part_83 rfl (lv_at hl 0 rfl) ?_
          refine zx_get hx hb hown hts hK hX 1 (by decide) q1022 rfl rfl dX3_part_84 ?_
          refine zm_topi (y := X 1 0) (by simp [zu]) ?_
          refine zm_topi (y := nI (mN X)) (hI.1.1) ?_
          refine lv_iload_n hx hb dX3_part_87 rfl (lv_at hl 3 rfl) ?_
          refine zx_st (i := mN X) hx hb hK hX hS 4 rfl rfl (n := 60) rfl (by omega) dX3_part_88 (fun H locs hX hS => ?_)
          refine lv_aload_n hx hb dX3_part_89 rfl (lv_at hl 0 rfl) ?_
          refine zx_get hx hb hown hts hK hX 5 (by decide) q1026 rfl rfl dX3_part_90 ?_
          refine lv_aload_n hx hb dX3_part_93 rfl (lv_at hl 0 rfl) ?_
          refine zx_get hx hb hown hts hK hX 1 (by decide) q1022 rfl rfl dX3_part_94 ?_
          refine zm_topi (y := X 1 0) (by simp [zu]) ?_
          refine zm_topi (y := nI (mN X)) (hI.1.1) ?_
          refine lv_iconst (v := (-1)) hx hb dX3_part_97 (by decide) ?_
          refine zx_st (i := mN X) hx hb hK hX hS 5 rfl rfl (n := 60) rfl (by omega) dX3_part_98 (fun H locs hX hS => ?_)
          refine lv_aload_n hx hb dX3_part_99 rfl (lv_at hl 0 rfl) ?_
          refine zx_get hx hb hown hts hK hX 13 (by decide) q1034 rfl rfl dX3_part_100 ?_
          refine lv_aload_n hx hb dX3_part_103 rfl (lv_at hl 0 rfl) ?_
          refine zx_get hx hb hown hts hK hX 1 (by decide) q1022 rfl rfl dX3_part_104 ?_
          refine zm_topi (y := X 1 0) (by simp [zu]) ?_
          refine zm_topi (y := nI (mN X)) (hI.1.1) ?_
          refine lv_sipush (v := 9000) hx hb dX3_part_107 (by decide) ?_
          refine zx_st (i := mN X) hx hb hK hX hS 13 rfl rfl (n := 60) rfl (by omega) dX3_part_110 (fun H locs hX hS => ?_)
          refine lv_aload_n hx hb dX3_part_111 rfl (lv_at hl 0 rfl) ?_
          refine zx_get hx hb hown hts hK hX 14 (by decide) q1035 rfl rfl dX3_part_112 ?_
          refine lv_aload_n hx hb dX3_part_115 rfl (lv_at hl 0 rfl) ?_
          refine zx_get hx hb hown hts hK hX 1 (by decide) q1022 rfl rfl dX3_part_116 ?_
          refine zm_topi (y := X 1 0) (by simp [zu]) ?_
          refine zm_topi (y := nI (mN X)) (hI.1.1) ?_
          refine lv_sipush (v := 300) hx hb dX3_part_119 (by decide) ?_
          refine zx_st (i := mN X) hx hb hK hX hS 14 rfl rfl (n := 60) rfl (by omega) dX3_part_122 (fun H locs hX hS => ?_)
          refine lv_aload_n hx hb dX3_part_123 rfl (lv_at hl 0 rfl) ?_
          refine lv_dup hx hb dX3_part_124 rfl ?_
          refine zx_get hx hb hown hts hK hX 1 (by decide) q1022 rfl rfl dX3_part_125 ?_
          refine zm_topi (y := X 1 0) (by simp [zu]) ?_
          refine zm_topi (y := nI (mN X)) (hI.1.1) ?_
          refine lv_iconst (v := 1) hx hb dX3_part_128 (by decide) ?_
          refine lv_iadd hx hb dX3_part_129 ?_
          refine zm_topi (y := nI (mN X + 1)) (nI_1 (mN X)) ?_
          refine zx_put hx hb hown hts hK hX hS 1 (by decide) rfl q1022 rfl rfl rfl rfl dX3_part_130 (fun H locs hX hS => ?_)
          refine lv_aload_n hx hb dX3_part_133 rfl (lv_at hl 0 rfl) ?_
          refine zx_get hx hb hown hts hK hX 1 (by decide) q1022 rfl rfl dX3_part_134 ?_
          refine zm_topi (y := nI (mN X + 1)) (by simp [zu]) ?_
          refine lv_iconst (v := 1) hx hb dX3_part_137 (by decide) ?_
          refine lv_isub hx hb dX3_part_138 ?_
          have e1 : ((nI (mN X + 1)) - 1 : Int32) = (m_part X k a d).1 := by first | rfl | (simp [m_part, nI_pred, c_2, c_5, c_8, c_9])
          have e2 : zu (zu (zu (zu (zu (zu (zu (zu X 0 0 0) 2 (mN X) k) 3 (mN X) a) 4 (mN X) d) 5 (mN X) (-1)) 13 (mN X) 9000) 14 (mN X) 300) 1 0 (nI (mN X + 1)) = (m_part X k a d).2 := by first | rfl | (simp [m_part, nI_pred, c_2, c_5, c_8, c_9])
          rw [e2] at hX
          exact ze_i hx hb hr hlocks hS dX3_part_139 (Nat.le_refl _) (Nat.le_refl _) () e1 hX
        · refine lv_iconst (v := 2) hx hb dX3_part_42 (by decide) ?_
          refine lv_goto (tgt := 47) hx hb dX3_part_43 (by decide) ?_
          refine zx_put hx hb hown hts hK hX hS 0 (by decide) rfl q1021 rfl rfl rfl rfl dX3_part_47 (fun H locs hX hS => ?_)
          refine lv_aload_n hx hb dX3_part_50 rfl (lv_at hl 0 rfl) ?_
          refine zx_get hx hb hown hts hK hX 0 (by decide) q1021 rfl rfl dX3_part_51 ?_
          refine zm_topi (y := 2) (by simp [zu]) ?_
          refine lv_if_le (tgt := 59) hx hb dX3_part_54 (by decide) (fun c_11 => absurd c_11 (by decide)) (fun _ => ?_)
          refine lv_iconst (v := 0) hx hb dX3_part_57 (by decide) ?_
          have e1 : (0 : Int32) = (m_part X k a d).1 := by first | rfl | (simp [m_part, nI_pred, c_2, c_5, c_8, c_9])
          have e2 : zu X 0 0 2 = (m_part X k a d).2 := by first | rfl | (simp [m_part, nI_pred, c_2, c_5, c_8, c_9])
          rw [e2] at hX
          exact ze_i hx hb hr hlocks hS dX3_part_58 (Nat.le_refl _) (Nat.le_refl _) () e1 hX
      · refine lv_iconst (v := 1) hx hb dX3_part_29 (by decide) ?_
        refine lv_goto (tgt := 47) hx hb dX3_part_30 (by decide) ?_
        refine zx_put hx hb hown hts hK hX hS 0 (by decide) rfl q1021 rfl rfl rfl rfl dX3_part_47 (fun H locs hX hS => ?_)
        refine lv_aload_n hx hb dX3_part_50 rfl (lv_at hl 0 rfl) ?_
        refine zx_get hx hb hown hts hK hX 0 (by decide) q1021 rfl rfl dX3_part_51 ?_
        refine zm_topi (y := 1) (by simp [zu]) ?_
        refine lv_if_le (tgt := 59) hx hb dX3_part_54 (by decide) (fun c_12 => absurd c_12 (by decide)) (fun _ => ?_)
        refine lv_iconst (v := 0) hx hb dX3_part_57 (by decide) ?_
        have e1 : (0 : Int32) = (m_part X k a d).1 := by first | rfl | (simp [m_part, nI_pred, c_2, c_5, c_8])
        have e2 : zu X 0 0 1 = (m_part X k a d).2 := by first | rfl | (simp [m_part, nI_pred, c_2, c_5, c_8])
        rw [e2] at hX
        exact ze_i hx hb hr hlocks hS dX3_part_58 (Nat.le_refl _) (Nat.le_refl _) () e1 hX
theorem zn_X3_limits : zN yX3_limits 4 := by decide +kernel
set_option maxHeartbeats 4000000 in
theorem ct_X3_limits (l : Launch) (g : zG) (A : Nat → Prop) (mo : Nat) (ma : Nat → Nat) (X : zX) (k : Int32) (a : Int32) (b : Int32) (d : Int32) : Met l yX3_limits (ws_ yX3_limits cX3_limits 6 (some .int)) (zR 2 0 0) (zP [.ref mo, .int k, .int a, .int b, .int d] g A (zMX g A mo ma X)) (va_Qi (fun rz_ (_ : Unit) => rz_ = (m_limits X k a b d).1) (fun (_ : Unit) t => zMX g A mo ma ((m_limits X k a b d).2) t.heap) A) 0 0 A := by
  refine zb_met (by decide) (Nat.le_of_ble_eq_true rfl) ?_
  intro p e s m args below meth c ls hx hb hr hml hown hts hlocks hnm hK hX ha hl
  have hown : s.vm.findClass RX3 = some m.cls := hown
  have hS : va_S A s.heap s.heap [] := va_S.rf
  have hl : lv_has ls 6 [(0, .ref mo), (1, .int k), (2, .int a), (3, .int b), (4, .int d)] := hl
  refine lv_aload_n hx hb dX3_limits_0 rfl (lv_at hl 0 rfl) ?_
  refine lv_iload_n hx hb dX3_limits_1 rfl (lv_at hl 1 rfl) ?_
  refine lv_iconst (v := 0) hx hb dX3_limits_2 (by decide) ?_
  refine lv_iconst (v := 4) hx hb dX3_limits_3 (by decide) ?_
  refine zc_i (zr_S (As := [.int k, .int 0, .int 4]) (rest := [.ref mo]) ⟨hx, hb, hml, hown, hts⟩ (ct_X3_in l g A (zMX g A mo ma X) k 0 4) zn_X3_in (lw_S q1130 q1131 q48 q1132) (by decide) (by decide) hK (fun _ h => h) hS hX rfl hl.1 (Nat.le_of_ble_eq_true rfl) dX3_limits_4 ⟨Nat.le_refl _, Nat.le_refl _⟩) hS (fun _ h => h) (fun r _ H locs r_1 hX _ _ hS => ?_)
  subst r_1
  refine zl_ifeq (tgt := 45) hx hb dX3_limits_7 (by decide) (fun c_2 => ?_) (fun c_2 => ?_)
  · refine lv_iconst (v := 1) hx hb dX3_limits_45 (by decide) ?_
    refine zx_put hx hb hown hts hK hX hS 0 (by decide) rfl q1021 rfl rfl rfl rfl dX3_limits_46 (fun H locs hX hS => ?_)
    refine lv_aload_n hx hb dX3_limits_49 rfl (lv_at hl 0 rfl) ?_
    refine zx_get hx hb hown hts hK hX 0 (by decide) q1021 rfl rfl dX3_limits_50 ?_
    refine zm_topi (y := 1) (by simp [zu]) ?_
    refine lv_if_le (tgt := 58) hx hb dX3_limits_53 (by decide) (fun c_3 => absurd c_3 (by decide)) (fun _ => ?_)
    refine lv_iconst (v := 0) hx hb dX3_limits_56 (by decide) ?_
    have e1 : (0 : Int32) = (m_limits X k a b d).1 := by simp [m_limits, c_2]
    have e2 : zu X 0 0 1 = (m_limits X k a b d).2 := by simp [m_limits, c_2]
    rw [e2] at hX
    exact ze_i hx hb hr hlocks hS dX3_limits_57 (Nat.le_refl _) (Nat.le_refl _) () e1 hX
  · refine lv_iload_n hx hb dX3_limits_10 rfl (lv_at hl 2 rfl) ?_
    refine lv_iconst (v := 0) hx hb dX3_limits_11 (by decide) ?_
    refine lv_ldc (v := 99999) hx hb hown (hts _ q1137) dX3_limits_12 ?_
    refine zc_i (zr_S (As := [.int a, .int 0, .int 99999]) (rest := [.ref mo]) ⟨hx, hb, hml, hown, hts⟩ (ct_X3_in l g A (zMX g A mo ma X) a 0 99999) zn_X3_in (lw_S q1130 q1131 q48 q1132) (by decide) (by decide) hK (fun _ h => h) hS hX rfl hl.1 (Nat.le_of_ble_eq_true rfl) dX3_limits_14 ⟨Nat.le_refl _, Nat.le_refl _⟩) hS (fun _ h => h) (fun r _ H locs r_4 hX _ _ hS => ?_)
    subst r_4
    refine zl_ifeq (tgt := 45) hx hb dX3_limits_17 (by decide) (fun c_5 => ?_) (fun c_5 => ?_)
    · refine lv_iconst (v := 1) hx hb dX3_limits_45 (by decide) ?_
      refine zx_put hx hb hown hts hK hX hS 0 (by decide) rfl q1021 rfl rfl rfl rfl dX3_limits_46 (fun H locs hX hS => ?_)
      refine lv_aload_n hx hb dX3_limits_49 rfl (lv_at hl 0 rfl) ?_
      refine zx_get hx hb hown hts hK hX 0 (by decide) q1021 rfl rfl dX3_limits_50 ?_
      refine zm_topi (y := 1) (by simp [zu]) ?_
      refine lv_if_le (tgt := 58) hx hb dX3_limits_53 (by decide) (fun c_6 => absurd c_6 (by decide)) (fun _ => ?_)
      refine lv_iconst (v := 0) hx hb dX3_limits_56 (by decide) ?_
      have e1 : (0 : Int32) = (m_limits X k a b d).1 := by simp [m_limits, c_2, c_5]
      have e2 : zu X 0 0 1 = (m_limits X k a b d).2 := by simp [m_limits, c_2, c_5]
      rw [e2] at hX
      exact ze_i hx hb hr hlocks hS dX3_limits_57 (Nat.le_refl _) (Nat.le_refl _) () e1 hX
    · refine lv_iload_n hx hb dX3_limits_20 rfl (lv_at hl 3 rfl) ?_
      refine lv_iconst (v := 0) hx hb dX3_limits_21 (by decide) ?_
      refine lv_ldc (v := 99999) hx hb hown (hts _ q1137) dX3_limits_22 ?_
      refine zc_i (zr_S (As := [.int b, .int 0, .int 99999]) (rest := [.ref mo]) ⟨hx, hb, hml, hown, hts⟩ (ct_X3_in l g A (zMX g A mo ma X) b 0 99999) zn_X3_in (lw_S q1130 q1131 q48 q1132) (by decide) (by decide) hK (fun _ h => h) hS hX rfl hl.1 (Nat.le_of_ble_eq_true rfl) dX3_limits_24 ⟨Nat.le_refl _, Nat.le_refl _⟩) hS (fun _ h => h) (fun r _ H locs r_7 hX _ _ hS => ?_)
      subst r_7
      refine zl_ifeq (tgt := 45) hx hb dX3_limits_27 (by decide) (fun c_8 => ?_) (fun c_8 => ?_)
      · refine lv_iconst (v := 1) hx hb dX3_limits_45 (by decide) ?_
        refine zx_put hx hb hown hts hK hX hS 0 (by decide) rfl q1021 rfl rfl rfl rfl dX3_limits_46 (fun H locs hX hS => ?_)
        refine lv_aload_n hx hb dX3_limits_49 rfl (lv_at hl 0 rfl) ?_
        refine zx_get hx hb hown hts hK hX 0 (by decide) q1021 rfl rfl dX3_limits_50 ?_
        refine zm_topi (y := 1) (by simp [zu]) ?_
        refine lv_if_le (tgt := 58) hx hb dX3_limits_53 (by decide) (fun c_9 => absurd c_9 (by decide)) (fun _ => ?_)
        refine lv_iconst (v := 0) hx hb dX3_limits_56 (by decide) ?_
        have e1 : (0 : Int32) = (m_limits X k a b d).1 := by simp [m_limits, c_2, c_5, c_8]
        have e2 : zu X 0 0 1 = (m_limits X k a b d).2 := by simp [m_limits, c_2, c_5, c_8]
        rw [e2] at hX
        exact ze_i hx hb hr hlocks hS dX3_limits_57 (Nat.le_refl _) (Nat.le_refl _) () e1 hX
      · refine lv_iload hx hb dX3_limits_30 (lv_at hl 4 rfl) ?_
        refine lv_iconst (v := 0) hx hb dX3_limits_32 (by decide) ?_
        refine lv_ldc (v := 99999) hx hb hown (hts _ q1137) dX3_limits_33 ?_
        refine zc_i (zr_S (As := [.int d, .int 0, .int 99999]) (rest := [.ref mo]) ⟨hx, hb, hml, hown, hts⟩ (ct_X3_in l g A (zMX g A mo ma X) d 0 99999) zn_X3_in (lw_S q1130 q1131 q48 q1132) (by decide) (by decide) hK (fun _ h => h) hS hX rfl hl.1 (Nat.le_of_ble_eq_true rfl) dX3_limits_35 ⟨Nat.le_refl _, Nat.le_refl _⟩) hS (fun _ h => h) (fun r _ H locs r_10 hX _ _ hS => ?_)
        subst r_10
        refine zl_ifeq (tgt := 45) hx hb dX3_limits_38 (by decide) (fun c_11 => ?_) (fun c_11 => ?_)
        · refine lv_iconst (v := 1) hx hb dX3_limits_45 (by decide) ?_
          refine zx_put hx hb hown hts hK hX hS 0 (by decide) rfl q1021 rfl rfl rfl rfl dX3_limits_46 (fun H locs hX hS => ?_)
          refine lv_aload_n hx hb dX3_limits_49 rfl (lv_at hl 0 rfl) ?_
          refine zx_get hx hb hown hts hK hX 0 (by decide) q1021 rfl rfl dX3_limits_50 ?_
          refine zm_topi (y := 1) (by simp [zu]) ?_
          refine lv_if_le (tgt := 58) hx hb dX3_limits_53 (by decide) (fun c_12 => absurd c_12 (by decide)) (fun _ => ?_)
          refine lv_iconst (v := 0) hx hb dX3_limits_56 (by decide) ?_
          have e1 : (0 : Int32) = (m_limits X k a b d).1 := by simp [m_limits, c_2, c_5, c_8, c_11]
          have e2 : zu X 0 0 1 = (m_limits X k a b d).2 := by simp [m_limits, c_2, c_5, c_8, c_11]
          rw [e2] at hX
          exact ze_i hx hb hr hlocks hS dX3_limits_57 (Nat.le_refl _) (Nat.le_refl _) () e1 hX
        · refine lv_iconst (v := 0) hx hb dX3_limits_41 (by decide) ?_
          refine lv_goto (tgt := 46) hx hb dX3_limits_42 (by decide) ?_
          refine zx_put hx hb hown hts hK hX hS 0 (by decide) rfl q1021 rfl rfl rfl rfl dX3_limits_46 (fun H locs hX hS => ?_)
          refine lv_aload_n hx hb dX3_limits_49 rfl (lv_at hl 0 rfl) ?_
          refine zx_get hx hb hown hts hK hX 0 (by decide) q1021 rfl rfl dX3_limits_50 ?_
          refine zm_topi (y := 0) (by simp [zu]) ?_
          refine lv_if_le (tgt := 58) hx hb dX3_limits_53 (by decide) (fun _ => ?_) (fun c_13 => absurd (by decide) c_13)
          obtain ⟨j, hj, rfl⟩ := zin_n (b := 4) rfl c_2
          have hjc : (nI j).toNatClampNeg = j := nI_clamp (by omega)
          refine lv_aload_n hx hb dX3_limits_58 rfl (lv_at hl 0 rfl) ?_
          refine zx_get hx hb hown hts hK hX 20 (by decide) q1041 rfl rfl dX3_limits_59 ?_
          refine lv_iload_n hx hb dX3_limits_62 rfl (lv_at hl 1 rfl) ?_
          refine zx_ld (i := j) hx hb hK hX 20 rfl rfl (n := 5) rfl (by omega) dX3_limits_63 ?_
          refine zm_topi (y := X 20 j) (by simp [zu]) ?_
          refine lv_istore (lv' := [(5, .int (X 20 j)), (0, .ref mo), (1, .int (nI j)), (2, .int a), (3, .int b), (4, .int d)]) hx hb dX3_limits_64 hl (by decide) rfl (fun ls hl => ?_)
          refine lv_aload_n hx hb dX3_limits_66 rfl (lv_at hl 1 rfl) ?_
          refine zx_get hx hb hown hts hK hX 20 (by decide) q1041 rfl rfl dX3_limits_67 ?_
          refine lv_iload_n hx hb dX3_limits_70 rfl (lv_at hl 2 rfl) ?_
          refine lv_iload_n hx hb dX3_limits_71 rfl (lv_at hl 3 rfl) ?_
          refine zx_st (i := j) hx hb hK hX hS 20 rfl rfl (n := 5) rfl (by omega) dX3_limits_72 (fun H locs hX hS => ?_)
          refine lv_aload_n hx hb dX3_limits_73 rfl (lv_at hl 1 rfl) ?_
          refine zx_get hx hb hown hts hK hX 21 (by decide) q1042 rfl rfl dX3_limits_74 ?_
          refine lv_iload_n hx hb dX3_limits_77 rfl (lv_at hl 2 rfl) ?_
          refine lv_iload_n hx hb dX3_limits_78 rfl (lv_at hl 4 rfl) ?_
          refine zx_st (i := j) hx hb hK hX hS 21 rfl rfl (n := 5) rfl (by omega) dX3_limits_79 (fun H locs hX hS => ?_)
          refine lv_aload_n hx hb dX3_limits_80 rfl (lv_at hl 1 rfl) ?_
          refine zx_get hx hb hown hts hK hX 22 (by decide) q1043 rfl rfl dX3_limits_81 ?_
          refine lv_iload_n hx hb dX3_limits_84 rfl (lv_at hl 2 rfl) ?_
          refine lv_iload hx hb dX3_limits_85 (lv_at hl 5 rfl) ?_
          refine zx_st (i := j) hx hb hK hX hS 22 rfl rfl (n := 5) rfl (by omega) dX3_limits_87 (fun H locs hX hS => ?_)
          refine lv_iload hx hb dX3_limits_88 (lv_at hl 0 rfl) ?_
          have e1 : (X 20 j : Int32) = (m_limits X (nI j) a b d).1 := by simp [m_limits, c_2, c_5, c_8, c_11, hjc]
          have e2 : zu (zu (zu (zu X 0 0 0) 20 j a) 21 j b) 22 j d = (m_limits X (nI j) a b d).2 := by simp [m_limits, c_2, c_5, c_8, c_11, hjc]
          rw [e2] at hX
          exact ze_i hx hb hr hlocks hS dX3_limits_90 (Nat.le_refl _) (Nat.le_refl _) () e1 hX
theorem zn_X3_headOf : zN yX3_headOf 1 := by decide +kernel
set_option maxHeartbeats 4000000 in
theorem ct_X3_headOf (l : Launch) (g : zG) (A : Nat → Prop) (mo : Nat) (ma : Nat → Nat) (X : zX) (q : Nat) (hI : MH X) (hq : q < mN X) : Met l yX3_headOf (ws_ yX3_headOf cX3_headOf 3 (some .int)) (zR 1 0 0) (zP [.ref mo, .int (nI q)] g A (zMX g A mo ma X)) (va_Qi (fun rz_ (_ : Unit) => rz_ = nI (mHd X q)) (fun (_ : Unit) t => zMX g A mo ma X t.heap) A) 0 0 A := by
  refine zb_met (by decide) (Nat.le_of_ble_eq_true rfl) ?_
  intro p e s m args below meth c ls hx hb hr hml hown hts hlocks hnm hK hX ha hl
  have hown : s.vm.findClass RX3 = some m.cls := hown
  have hS : va_S A s.heap s.heap [] := va_S.rf
  have hl : lv_has ls 3 [(0, .ref mo), (1, .int (nI q))] := hl
  have hn60 := hI.1.2
  refine lv_iload_n hx hb dX3_headOf_0 rfl (lv_at hl 1 rfl) ?_
  refine lv_istore_n (lv' := [(2, .int (nI q)), (0, .ref mo), (1, .int (nI q))]) hx hb dX3_headOf_1 rfl hl (by decide) rfl (fun ls hl => ?_)
  have L_2 : ∀ (n_1 : Nat) (h : Nat) (k : Nat), k < n_1 → (h < mN X) → (mHf X k h = mHd X q) → (mK X h < k) → ∀ (H : Heap) (locs : List Loc) (ls : Array Slot), zMX g A mo ma X H → va_S A s.heap H locs → lv_has ls 3 [(2, .int (nI h)), (0, .ref mo), (1, .int (nI q))] → W p l e (zR 1 0 0) s m args below meth c H locs 0 0 (MQ below (va_Qi (fun rz_ (_ : Unit) => rz_ = nI (mHd X q)) (fun (_ : Unit) t => zMX g A mo ma X t.heap) A) args s 0 0 A) (F0 m 2 ls []) := by
    intro n_1
    induction n_1 with
    | zero => intro h k hm; exact absurd hm (Nat.not_lt_zero _)
    | succ n_1 ih =>
      intro h k hm hh hf hk H locs ls hX hS hl
      have ih_3 := ih
      obtain ⟨k, rfl⟩ : ∃ j, k = j + 1 := ⟨k - 1, by omega⟩
      unfold mHf at hf
      refine lv_aload_n hx hb dX3_headOf_2 rfl (lv_at hl 1 rfl) ?_
      refine zx_get hx hb hown hts hK hX 5 (by decide) q1026 rfl rfl dX3_headOf_3 ?_
      refine lv_iload_n hx hb dX3_headOf_6 rfl (lv_at hl 0 rfl) ?_
      refine zx_ld (i := h) hx hb hK hX 5 rfl rfl (n := 60) rfl (by omega) dX3_headOf_7 ?_
      refine lv_if_lt (tgt := 21) hx hb dX3_headOf_8 (by decide) (fun c_4 => ?_) (fun c_4 => ?_)
      · refine lv_iload_n hx hb dX3_headOf_21 rfl (lv_at hl 0 rfl) ?_
        have e1 : (nI h : Int32) = nI (mHd X q) := by rw [if_pos c_4] at hf; rw [hf]
        exact ze_i hx hb hr hlocks hS dX3_headOf_22 (Nat.le_refl _) (Nat.le_refl _) () e1 hX
      · rw [if_neg c_4] at hf
        have hc := hI.host hh c_4
        refine lv_aload_n hx hb dX3_headOf_11 rfl (lv_at hl 1 rfl) ?_
        refine zx_get hx hb hown hts hK hX 5 (by decide) q1026 rfl rfl dX3_headOf_12 ?_
        refine lv_iload_n hx hb dX3_headOf_15 rfl (lv_at hl 0 rfl) ?_
        refine zx_ld (i := h) hx hb hK hX 5 rfl rfl (n := 60) rfl (by omega) dX3_headOf_16 ?_
        refine zm_topi hc.1 ?_
        refine lv_istore_n (lv' := [(2, .int (nI (mH X h))), (0, .ref mo), (1, .int (nI q))]) hx hb dX3_headOf_17 rfl hl (by decide) rfl (fun ls hl => ?_)
        refine lv_goto (tgt := 2) hx hb dX3_headOf_18 (by decide) ?_
        exact ih_3 (mH X h) k (by omega) hc.2.1 hf (by omega) _ _ _ hX hS (lv_sub hl [0, 1, 2] rfl)
  exact L_2 (5 + 1) q 5 (Nat.lt_succ_self _) hq rfl (Nat.lt_succ_of_le (hI.2.1 _ hq).2) _ _ _ hX hS (lv_sub hl [0, 1, 2] rfl)
theorem zn_X3_isBound : zN yX3_isBound 1 := by decide +kernel
set_option maxHeartbeats 4000000 in
theorem ct_X3_isBound (l : Launch) (g : zG) (A : Nat → Prop) (mo : Nat) (ma : Nat → Nat) (X : zX) (q : Nat) (hI : MH X) (hq : q < mN X) (hz12 : ∀ p, X 12 p = 0 ∨ X 12 p = 1) : Met l yX3_isBound (ws_ yX3_isBound cX3_isBound 2 (some .boolean)) (zR 2 0 0) (zP [.ref mo, .int (nI q)] g A (zMX g A mo ma X)) (va_Qi (fun rz_ (_ : Unit) => rz_ = X 12 (mHd X q)) (fun (_ : Unit) t => zMX g A mo ma X t.heap) A) 0 0 A := by
  refine zb_met (by decide) (Nat.le_of_ble_eq_true rfl) ?_
  intro p e s m args below meth c ls hx hb hr hml hown hts hlocks hnm hK hX ha hl
  have hown : s.vm.findClass RX3 = some m.cls := hown
  have hS : va_S A s.heap s.heap [] := va_S.rf
  have hl : lv_has ls 2 [(0, .ref mo), (1, .int (nI q))] := hl
  have hn60 := hI.1.2
  refine lv_aload_n hx hb dX3_isBound_0 rfl (lv_at hl 0 rfl) ?_
  refine zx_get hx hb hown hts hK hX 12 (by decide) q1033 rfl rfl dX3_isBound_1 ?_
  refine lv_aload_n hx hb dX3_isBound_4 rfl (lv_at hl 0 rfl) ?_
  refine lv_iload_n hx hb dX3_isBound_5 rfl (lv_at hl 1 rfl) ?_
  refine zc_i (zr_V (As := [.int (nI q)]) (rest := [.ref (ma 12)]) ⟨hx, hb, hml, hown, hts⟩ (ct_X3_headOf l g A mo ma X q hI (by assumption)) zn_X3_headOf (lw_V q1153 q1155 qs18 q48 q1156) rfl (by decide) (by decide) hK (fun _ h => h) hS hX (zx_recv hK hX) rfl hl.1 (Nat.le_of_ble_eq_true rfl) dX3_isBound_6 ⟨Nat.le_refl _, Nat.le_refl _⟩) hS (fun _ h => h) (fun r _ H locs r_1 hX _ _ hS => ?_)
  subst r_1
  have hlt := mHd_lt hI hq
  refine zx_ldz (i := mHd X q) hx hb hK hX 12 rfl rfl (n := 60) rfl (by omega) dX3_isBound_9 ?_
  have e1 : (X 12 (mHd X q) : Int32) = X 12 (mHd X q) := by first | rfl | (simp [])
  exact ze_z hx hb hr hlocks hS dX3_isBound_10 (Nat.le_refl _) (Nat.le_refl _) (hz12 _) () e1 hX
theorem zn_X3_isIn : zN yX3_isIn 2 := by decide +kernel
set_option maxHeartbeats 4000000 in
theorem ct_X3_isIn (l : Launch) (g : zG) (A : Nat → Prop) (mo : Nat) (ma : Nat → Nat) (X : zX) (q : Nat) (t : Nat) (hI : MH X) (hq : q < mN X) (ht : t < 60) : Met l yX3_isIn (ws_ yX3_isIn cX3_isIn 3 (some .boolean)) (zR 2 0 0) (zP [.ref mo, .int (nI q), .int (nI t)] g A (zMX g A mo ma X)) (va_Qi (fun rz_ (_ : Unit) => rz_ = zb (mIi X q t)) (fun (_ : Unit) t => zMX g A mo ma X t.heap) A) 0 0 A := by
  refine zb_met (by decide) (Nat.le_of_ble_eq_true rfl) ?_
  intro p e s m args below meth c ls hx hb hr hml hown hts hlocks hnm hK hX ha hl
  have hown : s.vm.findClass RX3 = some m.cls := hown
  have hS : va_S A s.heap s.heap [] := va_S.rf
  have hl : lv_has ls 3 [(0, .ref mo), (1, .int (nI q)), (2, .int (nI t))] := hl
  have hn60 := hI.1.2
  refine lv_aload_n hx hb dX3_isIn_0 rfl (lv_at hl 0 rfl) ?_
  refine zx_get hx hb hown hts hK hX 5 (by decide) q1026 rfl rfl dX3_isIn_1 ?_
  refine lv_iload_n hx hb dX3_isIn_4 rfl (lv_at hl 1 rfl) ?_
  refine zx_ld (i := q) hx hb hK hX 5 rfl rfl (n := 60) rfl (by omega) dX3_isIn_5 ?_
  refine lv_bipush (v := (-2)) hx hb dX3_isIn_6 (by decide) ?_
  refine lv_icmp_eq (tgt := 20) hx hb dX3_isIn_8 (by decide) (fun c_1 => ?_) (fun c_1 => ?_)
  · refine lv_iload_n hx hb dX3_isIn_20 rfl (lv_at hl 1 rfl) ?_
    refine lv_iload_n hx hb dX3_isIn_21 rfl (lv_at hl 2 rfl) ?_
    refine zl_ne (tgt := 29) (a := q) (b := t) hx hb (by first | decide | omega) (by first | decide | omega) dX3_isIn_22 (by decide) (fun c_2 => ?_) (fun c_2 => ?_)
    · refine lv_iconst (v := 0) hx hb dX3_isIn_29 (by decide) ?_
      have e1 : (0 : Int32) = zb (mIi X q t) := by first | rfl | (simp [mIi, zb, c_1, c_2])
      exact ze_z hx hb hr hlocks hS dX3_isIn_30 (Nat.le_refl _) (Nat.le_refl _) (Or.inl rfl) () e1 hX
    · refine lv_iconst (v := 1) hx hb dX3_isIn_25 (by decide) ?_
      refine lv_goto (tgt := 30) hx hb dX3_isIn_26 (by decide) ?_
      have e1 : (1 : Int32) = zb (mIi X q t) := by first | rfl | (simp [mIi, zb, c_1, c_2])
      exact ze_z hx hb hr hlocks hS dX3_isIn_30 (Nat.le_refl _) (Nat.le_refl _) (Or.inr rfl) () e1 hX
  · refine lv_aload_n hx hb dX3_isIn_11 rfl (lv_at hl 0 rfl) ?_
    refine lv_iload_n hx hb dX3_isIn_12 rfl (lv_at hl 1 rfl) ?_
    refine zc_i (zr_V (As := [.int (nI q)]) (rest := []) ⟨hx, hb, hml, hown, hts⟩ (ct_X3_headOf l g A mo ma X q hI (by assumption)) zn_X3_headOf (lw_V q1153 q1155 qs18 q48 q1156) rfl (by decide) (by decide) hK (fun _ h => h) hS hX (zx_recv hK hX) rfl hl.1 (Nat.le_of_ble_eq_true rfl) dX3_isIn_13 ⟨Nat.le_refl _, Nat.le_refl _⟩) hS (fun _ h => h) (fun r _ H locs r_3 hX _ _ hS => ?_)
    subst r_3
    have hlt := mHd_lt hI hq
    refine lv_iload_n hx hb dX3_isIn_16 rfl (lv_at hl 2 rfl) ?_
    refine zl_eq (tgt := 25) (a := mHd X q) (b := t) hx hb (by first | decide | omega) (by first | decide | omega) dX3_isIn_17 (by decide) (fun c_4 => ?_) (fun c_4 => ?_)
    · refine lv_iconst (v := 1) hx hb dX3_isIn_25 (by decide) ?_
      refine lv_goto (tgt := 30) hx hb dX3_isIn_26 (by decide) ?_
      have e1 : (1 : Int32) = zb (mIi X q t) := by first | rfl | (simp [mIi, zb, c_1, c_4])
      exact ze_z hx hb hr hlocks hS dX3_isIn_30 (Nat.le_refl _) (Nat.le_refl _) (Or.inr rfl) () e1 hX
    · refine lv_iload_n hx hb dX3_isIn_20 rfl (lv_at hl 1 rfl) ?_
      refine lv_iload_n hx hb dX3_isIn_21 rfl (lv_at hl 2 rfl) ?_
      refine zl_ne (tgt := 29) (a := q) (b := t) hx hb (by first | decide | omega) (by first | decide | omega) dX3_isIn_22 (by decide) (fun c_5 => ?_) (fun c_5 => ?_)
      · refine lv_iconst (v := 0) hx hb dX3_isIn_29 (by decide) ?_
        have e1 : (0 : Int32) = zb (mIi X q t) := by first | rfl | (simp [mIi, zb, c_1, c_4, c_5])
        exact ze_z hx hb hr hlocks hS dX3_isIn_30 (Nat.le_refl _) (Nat.le_refl _) (Or.inl rfl) () e1 hX
      · refine lv_iconst (v := 1) hx hb dX3_isIn_25 (by decide) ?_
        refine lv_goto (tgt := 30) hx hb dX3_isIn_26 (by decide) ?_
        have e1 : (1 : Int32) = zb (mIi X q t) := by first | rfl | (simp [mIi, zb, c_1, c_4, c_5])
        exact ze_z hx hb hr hlocks hS dX3_isIn_30 (Nat.le_refl _) (Nat.le_refl _) (Or.inr rfl) () e1 hX
theorem zn_X3_places : zN yX3_places 2 := by decide +kernel
set_option maxHeartbeats 4000000 in
theorem ct_X3_places (l : Launch) (g : zG) (A : Nat → Prop) (B : Heap → Prop) (h : Int32) (k : Int32) : Met l yX3_places (ws_ yX3_places cX3_places 2 (some .int)) (zR 1 0 0) (zP [.int h, .int k] g A B) (va_Qi (fun rz_ (_ : Unit) => rz_ = mPl h k) (fun (_ : Unit) t => B t.heap) A) 0 0 A := by
  refine zb_met (by decide) (Nat.le_of_ble_eq_true rfl) ?_
  intro p e s m args below meth c ls hx hb hr hml hown hts hlocks hnm hK hB ha hl
  have hown : s.vm.findClass RX3 = some m.cls := hown
  have hS : va_S A s.heap s.heap [] := va_S.rf
  have hl : lv_has ls 2 [(0, .int h), (1, .int k)] := hl
  refine lv_iload_n hx hb dX3_places_0 rfl (lv_at hl 0 rfl) ?_
  refine lv_iconst (v := 2) hx hb dX3_places_1 (by decide) ?_
  refine lv_icmp_ne (tgt := 25) hx hb dX3_places_2 (by decide) (fun c_1 => ?_) (fun c_1 => ?_)
  · refine lv_iload_n hx hb dX3_places_25 rfl (lv_at hl 0 rfl) ?_
    refine lv_if_eq (tgt := 34) hx hb dX3_places_26 (by decide) (fun c_2 => ?_) (fun c_2 => ?_)
    · refine lv_iload_n hx hb dX3_places_34 rfl (lv_at hl 1 rfl) ?_
      refine lv_iload_n hx hb dX3_places_35 rfl (lv_at hl 0 rfl) ?_
      refine lv_iconst (v := 1) hx hb dX3_places_36 (by decide) ?_
      refine lv_iadd hx hb dX3_places_37 ?_
      refine lv_icmp_ne (tgt := 45) hx hb dX3_places_38 (by decide) (fun c_3 => ?_) (fun c_3 => ?_)
      · refine lv_iconst (v := 0) hx hb dX3_places_45 (by decide) ?_
        have e1 : (0 : Int32) = mPl h k := by unfold mPl; first | (rw [if_pos c_1]; simp [c_2, c_3]; done) | (rw [if_neg c_1, if_pos ⟨by simp [c_2, c_3], c_3⟩]; done) | (rw [if_neg c_1, if_neg (fun q => c_3 q.2)]; done) | (rw [if_neg c_1, if_neg (fun q => q.1.elim c_2 c_3)]; done)
        exact ze_i hx hb hr hlocks hS dX3_places_46 (Nat.le_refl _) (Nat.le_refl _) () e1 hB
      · refine lv_iconst (v := 2) hx hb dX3_places_41 (by decide) ?_
        refine lv_goto (tgt := 46) hx hb dX3_places_42 (by decide) ?_
        have e1 : (2 : Int32) = mPl h k := by unfold mPl; first | (rw [if_pos c_1]; simp [c_2, c_3]; done) | (rw [if_neg c_1, if_pos ⟨by simp [c_2, c_3], c_3⟩]; done) | (rw [if_neg c_1, if_neg (fun q => c_3 q.2)]; done) | (rw [if_neg c_1, if_neg (fun q => q.1.elim c_2 c_3)]; done)
        exact ze_i hx hb hr hlocks hS dX3_places_46 (Nat.le_refl _) (Nat.le_refl _) () e1 hB
    · refine lv_iload_n hx hb dX3_places_29 rfl (lv_at hl 0 rfl) ?_
      refine lv_iconst (v := 1) hx hb dX3_places_30 (by decide) ?_
      refine lv_icmp_ne (tgt := 45) hx hb dX3_places_31 (by decide) (fun c_4 => ?_) (fun c_4 => ?_)
      · refine lv_iconst (v := 0) hx hb dX3_places_45 (by decide) ?_
        have e1 : (0 : Int32) = mPl h k := by unfold mPl; first | (rw [if_pos c_1]; simp [c_2, c_4]; done) | (rw [if_neg c_1, if_pos ⟨by simp [c_2, c_4], c_4⟩]; done) | (rw [if_neg c_1, if_neg (fun q => c_4 q.2)]; done) | (rw [if_neg c_1, if_neg (fun q => q.1.elim c_2 c_4)]; done)
        exact ze_i hx hb hr hlocks hS dX3_places_46 (Nat.le_refl _) (Nat.le_refl _) () e1 hB
      · refine lv_iload_n hx hb dX3_places_34 rfl (lv_at hl 1 rfl) ?_
        refine lv_iload_n hx hb dX3_places_35 rfl (lv_at hl 0 rfl) ?_
        refine lv_iconst (v := 1) hx hb dX3_places_36 (by decide) ?_
        refine lv_iadd hx hb dX3_places_37 ?_
        refine lv_icmp_ne (tgt := 45) hx hb dX3_places_38 (by decide) (fun c_5 => ?_) (fun c_5 => ?_)
        · refine lv_iconst (v := 0) hx hb dX3_places_45 (by decide) ?_
          have e1 : (0 : Int32) = mPl h k := by unfold mPl; first | (rw [if_pos c_1]; simp [c_2, c_4, c_5]; done) | (rw [if_neg c_1, if_pos ⟨by simp [c_2, c_4, c_5], c_5⟩]; done) | (rw [if_neg c_1, if_neg (fun q => c_5 q.2)]; done) | (rw [if_neg c_1, if_neg (fun q => q.1.elim c_2 c_5)]; done)
          exact ze_i hx hb hr hlocks hS dX3_places_46 (Nat.le_refl _) (Nat.le_refl _) () e1 hB
        · refine lv_iconst (v := 2) hx hb dX3_places_41 (by decide) ?_
          refine lv_goto (tgt := 46) hx hb dX3_places_42 (by decide) ?_
          have e1 : (2 : Int32) = mPl h k := by unfold mPl; first | (rw [if_pos c_1]; simp [c_2, c_4, c_5]; done) | (rw [if_neg c_1, if_pos ⟨by simp [c_2, c_4, c_5], c_5⟩]; done) | (rw [if_neg c_1, if_neg (fun q => c_5 q.2)]; done) | (rw [if_neg c_1, if_neg (fun q => q.1.elim c_2 c_5)]; done)
          exact ze_i hx hb hr hlocks hS dX3_places_46 (Nat.le_refl _) (Nat.le_refl _) () e1 hB
  · refine lv_iload_n hx hb dX3_places_5 rfl (lv_at hl 1 rfl) ?_
    refine lv_iconst (v := 3) hx hb dX3_places_6 (by decide) ?_
    refine lv_icmp_ne (tgt := 14) hx hb dX3_places_7 (by decide) (fun c_6 => ?_) (fun c_6 => ?_)
    · refine lv_iload_n hx hb dX3_places_14 rfl (lv_at hl 1 rfl) ?_
      refine lv_iconst (v := 4) hx hb dX3_places_15 (by decide) ?_
      refine lv_icmp_ne (tgt := 23) hx hb dX3_places_16 (by decide) (fun c_7 => ?_) (fun c_7 => ?_)
      · refine lv_iconst (v := 0) hx hb dX3_places_23 (by decide) ?_
        have e1 : (0 : Int32) = mPl h k := by unfold mPl; first | (rw [if_pos c_1]; simp [c_6, c_7]; done) | (rw [if_neg c_1, if_pos ⟨by simp [c_6, c_7], c_7⟩]; done) | (rw [if_neg c_1, if_neg (fun q => c_7 q.2)]; done) | (rw [if_neg c_1, if_neg (fun q => q.1.elim c_6 c_7)]; done)
        exact ze_i hx hb hr hlocks hS dX3_places_24 (Nat.le_refl _) (Nat.le_refl _) () e1 hB
      · refine lv_iconst (v := 1) hx hb dX3_places_19 (by decide) ?_
        refine lv_goto (tgt := 24) hx hb dX3_places_20 (by decide) ?_
        have e1 : (1 : Int32) = mPl h k := by unfold mPl; first | (rw [if_pos c_1]; simp [c_6, c_7]; done) | (rw [if_neg c_1, if_pos ⟨by simp [c_6, c_7], c_7⟩]; done) | (rw [if_neg c_1, if_neg (fun q => c_7 q.2)]; done) | (rw [if_neg c_1, if_neg (fun q => q.1.elim c_6 c_7)]; done)
        exact ze_i hx hb hr hlocks hS dX3_places_24 (Nat.le_refl _) (Nat.le_refl _) () e1 hB
    · refine lv_iconst (v := 2) hx hb dX3_places_10 (by decide) ?_
      refine lv_goto (tgt := 24) hx hb dX3_places_11 (by decide) ?_
      have e1 : (2 : Int32) = mPl h k := by unfold mPl; first | (rw [if_pos c_1]; simp [c_6]; done) | (rw [if_neg c_1, if_pos ⟨by simp [c_6], c_6⟩]; done) | (rw [if_neg c_1, if_neg (fun q => c_6 q.2)]; done) | (rw [if_neg c_1, if_neg (fun q => q.1.elim c_6 c_6)]; done)
      exact ze_i hx hb hr hlocks hS dX3_places_24 (Nat.le_refl _) (Nat.le_refl _) () e1 hB
theorem zn_X3_inside : zN yX3_inside 2 := by decide +kernel
set_option maxHeartbeats 4000000 in
theorem ct_X3_inside (l : Launch) (g : zG) (A : Nat → Prop) (mo : Nat) (ma : Nat → Nat) (X : zX) (h : Int32) (k : Int32) (hI : MH X) : Met l yX3_inside (ws_ yX3_inside cX3_inside 5 (some .int)) (zR 1 0 0) (zP [.ref mo, .int h, .int k] g A (zMX g A mo ma X)) (va_Qi (fun rz_ (_ : Unit) => rz_ = nI (mIn X h k)) (fun (_ : Unit) t => zMX g A mo ma X t.heap) A) 0 0 A := by
  refine zb_met (by decide) (Nat.le_of_ble_eq_true rfl) ?_
  intro p e s m args below meth c ls hx hb hr hml hown hts hlocks hnm hK hX ha hl
  have hown : s.vm.findClass RX3 = some m.cls := hown
  have hS : va_S A s.heap s.heap [] := va_S.rf
  have hl : lv_has ls 5 [(0, .ref mo), (1, .int h), (2, .int k)] := hl
  have hn60 := hI.1.2
  refine lv_iconst (v := 0) hx hb dX3_inside_0 (by decide) ?_
  refine lv_istore_n (lv' := [(3, .int 0), (0, .ref mo), (1, .int h), (2, .int k)]) hx hb dX3_inside_1 rfl hl (by decide) rfl (fun ls hl => ?_)
  refine lv_iconst (v := 0) hx hb dX3_inside_2 (by decide) ?_
  refine lv_istore (lv' := [(4, .int 0), (3, .int 0), (0, .ref mo), (1, .int h), (2, .int k)]) hx hb dX3_inside_3 hl (by decide) rfl (fun ls hl => ?_)
  have L_2 : ∀ (n_1 : Nat) (j : Nat), mN X + 1 - j < n_1 → (j ≤ mN X) → ∀ (H : Heap) (locs : List Loc) (ls : Array Slot), zMX g A mo ma X H → va_S A s.heap H locs → lv_has ls 5 [(4, .int (nI j)), (3, .int (nI (zct (mIf X h k) j))), (0, .ref mo), (1, .int h), (2, .int k)] → W p l e (zR 1 0 0) s m args below meth c H locs 0 0 (MQ below (va_Qi (fun rz_ (_ : Unit) => rz_ = nI (mIn X h k)) (fun (_ : Unit) t => zMX g A mo ma X t.heap) A) args s 0 0 A) (F0 m 5 ls []) := by
    intro n_1
    induction n_1 with
    | zero => intro j hm; exact absurd hm (Nat.not_lt_zero _)
    | succ n_1 ih =>
      intro j hm hj H locs ls hX hS hl
      have ih_3 := ih
      refine lv_iload hx hb dX3_inside_5 (lv_at hl 0 rfl) ?_
      refine lv_aload_n hx hb dX3_inside_7 rfl (lv_at hl 2 rfl) ?_
      refine zx_get hx hb hown hts hK hX 1 (by decide) q1022 rfl rfl dX3_inside_8 ?_
      refine zm_topi (y := nI (mN X)) (hI.1.1) ?_
      refine zl_ge (tgt := 55) (a := j) (b := mN X) hx hb (by first | decide | omega) (by first | decide | omega) dX3_inside_11 (by decide) (fun c_4 => ?_) (fun c_4 => ?_)
      · refine lv_iload_n hx hb dX3_inside_55 rfl (lv_at hl 1 rfl) ?_
        have e1 : (nI (zct (mIf X h k) j) : Int32) = nI (mIn X h k) := by have q : j = mN X := (by omega); subst q; rfl
        exact ze_i hx hb hr hlocks hS dX3_inside_56 (Nat.le_refl _) (Nat.le_refl _) () e1 hX
      · refine lv_iload_n hx hb dX3_inside_14 rfl (lv_at hl 1 rfl) ?_
        refine lv_aload_n hx hb dX3_inside_15 rfl (lv_at hl 2 rfl) ?_
        refine zx_get hx hb hown hts hK hX 5 (by decide) q1026 rfl rfl dX3_inside_16 ?_
        refine lv_iload hx hb dX3_inside_19 (lv_at hl 0 rfl) ?_
        refine zx_ld (i := j) hx hb hK hX 5 rfl rfl (n := 60) rfl (by omega) dX3_inside_21 ?_
        refine lv_iload_n hx hb dX3_inside_22 rfl (lv_at hl 3 rfl) ?_
        refine lv_icmp_ne (tgt := 46) hx hb dX3_inside_23 (by decide) (fun c_5 => ?_) (fun c_5 => ?_)
        · refine lv_iconst (v := 0) hx hb dX3_inside_46 (by decide) ?_
          refine lv_iadd hx hb dX3_inside_47 ?_
          refine zm_topi (y := nI (zct (mIf X h k) (j + 1))) (by simp [zct, mIf, nI_1, c_4, c_5]) ?_
          refine lv_istore_n (lv' := [(3, .int (nI (zct (mIf X h k) (j + 1)))), (4, .int (nI j)), (0, .ref mo), (1, .int h), (2, .int k)]) hx hb dX3_inside_48 rfl hl (by decide) rfl (fun ls hl => ?_)
          refine lv_iinc (v := nI (j + 1)) (lv' := [(4, .int (nI (j + 1))), (3, .int (nI (zct (mIf X h k) (j + 1)))), (0, .ref mo), (1, .int h), (2, .int k)]) hx hb dX3_inside_49 hl (k := 1) rfl (nI_1 j) (by decide) rfl (fun ls hl => ?_)
          refine lv_goto (tgt := 5) hx hb dX3_inside_52 (by decide) ?_
          exact ih_3 (j + 1) (by omega) (by omega) _ _ _ hX hS (lv_sub hl [0, 1, 2, 3, 4] rfl)
        · refine lv_iload_n hx hb dX3_inside_26 rfl (lv_at hl 4 rfl) ?_
          refine lv_iconst (v := (-1)) hx hb dX3_inside_27 (by decide) ?_
          refine lv_icmp_eq (tgt := 42) hx hb dX3_inside_28 (by decide) (fun c_6 => ?_) (fun c_6 => ?_)
          · refine lv_iconst (v := 1) hx hb dX3_inside_42 (by decide) ?_
            refine lv_goto (tgt := 47) hx hb dX3_inside_43 (by decide) ?_
            refine lv_iadd hx hb dX3_inside_47 ?_
            refine zm_topi (y := nI (zct (mIf X h k) j + 1)) (nI_1 (zct (mIf X h k) j)) ?_
            refine zm_topi (y := nI (zct (mIf X h k) (j + 1))) (by simp [zct, mIf, nI_1, c_4, c_5, c_6]) ?_
            refine lv_istore_n (lv' := [(3, .int (nI (zct (mIf X h k) (j + 1)))), (4, .int (nI j)), (0, .ref mo), (1, .int h), (2, .int k)]) hx hb dX3_inside_48 rfl hl (by decide) rfl (fun ls hl => ?_)
            refine lv_iinc (v := nI (j + 1)) (lv' := [(4, .int (nI (j + 1))), (3, .int (nI (zct (mIf X h k) (j + 1)))), (0, .ref mo), (1, .int h), (2, .int k)]) hx hb dX3_inside_49 hl (k := 1) rfl (nI_1 j) (by decide) rfl (fun ls hl => ?_)
            refine lv_goto (tgt := 5) hx hb dX3_inside_52 (by decide) ?_
            exact ih_3 (j + 1) (by omega) (by omega) _ _ _ hX hS (lv_sub hl [0, 1, 2, 3, 4] rfl)
          · refine lv_aload_n hx hb dX3_inside_31 rfl (lv_at hl 2 rfl) ?_
            refine zx_get hx hb hown hts hK hX 2 (by decide) q1023 rfl rfl dX3_inside_32 ?_
            refine lv_iload hx hb dX3_inside_35 (lv_at hl 0 rfl) ?_
            refine zx_ld (i := j) hx hb hK hX 2 rfl rfl (n := 60) rfl (by omega) dX3_inside_37 ?_
            refine lv_iload_n hx hb dX3_inside_38 rfl (lv_at hl 4 rfl) ?_
            refine lv_icmp_ne (tgt := 46) hx hb dX3_inside_39 (by decide) (fun c_7 => ?_) (fun c_7 => ?_)
            · refine lv_iconst (v := 0) hx hb dX3_inside_46 (by decide) ?_
              refine lv_iadd hx hb dX3_inside_47 ?_
              refine zm_topi (y := nI (zct (mIf X h k) (j + 1))) (by simp [zct, mIf, nI_1, c_4, c_5, c_6, c_7]) ?_
              refine lv_istore_n (lv' := [(3, .int (nI (zct (mIf X h k) (j + 1)))), (4, .int (nI j)), (0, .ref mo), (1, .int h), (2, .int k)]) hx hb dX3_inside_48 rfl hl (by decide) rfl (fun ls hl => ?_)
              refine lv_iinc (v := nI (j + 1)) (lv' := [(4, .int (nI (j + 1))), (3, .int (nI (zct (mIf X h k) (j + 1)))), (0, .ref mo), (1, .int h), (2, .int k)]) hx hb dX3_inside_49 hl (k := 1) rfl (nI_1 j) (by decide) rfl (fun ls hl => ?_)
              refine lv_goto (tgt := 5) hx hb dX3_inside_52 (by decide) ?_
              exact ih_3 (j + 1) (by omega) (by omega) _ _ _ hX hS (lv_sub hl [0, 1, 2, 3, 4] rfl)
            · refine lv_iconst (v := 1) hx hb dX3_inside_42 (by decide) ?_
              refine lv_goto (tgt := 47) hx hb dX3_inside_43 (by decide) ?_
              refine lv_iadd hx hb dX3_inside_47 ?_
              refine zm_topi (y := nI (zct (mIf X h k) j + 1)) (nI_1 (zct (mIf X h k) j)) ?_
              refine zm_topi (y := nI (zct (mIf X h k) (j + 1))) (by simp [zct, mIf, nI_1, c_4, c_5, c_6, c_7]) ?_
              refine lv_istore_n (lv' := [(3, .int (nI (zct (mIf X h k) (j + 1)))), (4, .int (nI j)), (0, .ref mo), (1, .int h), (2, .int k)]) hx hb dX3_inside_48 rfl hl (by decide) rfl (fun ls hl => ?_)
              refine lv_iinc (v := nI (j + 1)) (lv' := [(4, .int (nI (j + 1))), (3, .int (nI (zct (mIf X h k) (j + 1)))), (0, .ref mo), (1, .int h), (2, .int k)]) hx hb dX3_inside_49 hl (k := 1) rfl (nI_1 j) (by decide) rfl (fun ls hl => ?_)
              refine lv_goto (tgt := 5) hx hb dX3_inside_52 (by decide) ?_
              exact ih_3 (j + 1) (by omega) (by omega) _ _ _ hX hS (lv_sub hl [0, 1, 2, 3, 4] rfl)
  exact L_2 ((mN X + 1 - 0) + 1) 0 (Nat.lt_succ_self _) (by omega) _ _ _ hX hS (lv_sub hl [0, 1, 2, 3, 4] rfl)
theorem zn_X3_moves : zN yX3_moves 2 := by decide +kernel
set_option maxHeartbeats 4000000 in
theorem ct_X3_moves (l : Launch) (g : zG) (A : Nat → Prop) (mo : Nat) (ma : Nat → Nat) (X : zX) (q : Nat) (to : Int32) (hq : q < mN X) (hn60 : mN X ≤ 60) (hM : X 23 0 = nI (mM X) ∧ mM X < 3000) : Met l yX3_moves (ws_ yX3_moves cX3_moves 3 none) (zR 1 0 0) (zP [.ref mo, .int (nI q), .int to] g A (zMX g A mo ma X)) (va_Qv (fun (_ : Unit) => True) (fun (_ : Unit) t => zMX g A mo ma (m_moves X q to) t.heap) A) 0 0 A := by
  refine zb_met (by decide) (Nat.le_of_ble_eq_true rfl) ?_
  intro p e s m args below meth c ls hx hb hr hml hown hts hlocks hnm hK hX ha hl
  have hown : s.vm.findClass RX3 = some m.cls := hown
  have hS : va_S A s.heap s.heap [] := va_S.rf
  have hl : lv_has ls 3 [(0, .ref mo), (1, .int (nI q)), (2, .int to)] := hl
  refine lv_aload_n hx hb dX3_moves_0 rfl (lv_at hl 0 rfl) ?_
  refine zx_get hx hb hown hts hK hX 5 (by decide) q1026 rfl rfl dX3_moves_1 ?_
  refine lv_iload_n hx hb dX3_moves_4 rfl (lv_at hl 1 rfl) ?_
  refine lv_iload_n hx hb dX3_moves_5 rfl (lv_at hl 2 rfl) ?_
  refine zx_st (i := q) hx hb hK hX hS 5 rfl rfl (n := 60) rfl (by omega) dX3_moves_6 (fun H locs hX hS => ?_)
  refine lv_aload_n hx hb dX3_moves_7 rfl (lv_at hl 0 rfl) ?_
  refine zx_get hx hb hown hts hK hX 24 (by decide) q1045 rfl rfl dX3_moves_8 ?_
  refine lv_aload_n hx hb dX3_moves_11 rfl (lv_at hl 0 rfl) ?_
  refine zx_get hx hb hown hts hK hX 23 (by decide) q1044 rfl rfl dX3_moves_12 ?_
  refine zm_topi (y := X 23 0) (by simp [zu]) ?_
  refine zm_topi (y := nI (mM X)) (hM.1) ?_
  refine lv_iload_n hx hb dX3_moves_15 rfl (lv_at hl 1 rfl) ?_
  refine zx_st (i := mM X) hx hb hK hX hS 24 rfl rfl (n := 4000) rfl (by omega) dX3_moves_16 (fun H locs hX hS => ?_)
  refine lv_aload_n hx hb dX3_moves_17 rfl (lv_at hl 0 rfl) ?_
  refine zx_get hx hb hown hts hK hX 25 (by decide) q1046 rfl rfl dX3_moves_18 ?_
  refine lv_aload_n hx hb dX3_moves_21 rfl (lv_at hl 0 rfl) ?_
  refine zx_get hx hb hown hts hK hX 23 (by decide) q1044 rfl rfl dX3_moves_22 ?_
  refine zm_topi (y := X 23 0) (by simp [zu]) ?_
  refine zm_topi (y := nI (mM X)) (hM.1) ?_
  refine lv_iload_n hx hb dX3_moves_25 rfl (lv_at hl 2 rfl) ?_
  refine zx_st (i := mM X) hx hb hK hX hS 25 rfl rfl (n := 4000) rfl (by omega) dX3_moves_26 (fun H locs hX hS => ?_)
  refine lv_aload_n hx hb dX3_moves_27 rfl (lv_at hl 0 rfl) ?_
  refine lv_dup hx hb dX3_moves_28 rfl ?_
  refine zx_get hx hb hown hts hK hX 23 (by decide) q1044 rfl rfl dX3_moves_29 ?_
  refine zm_topi (y := X 23 0) (by simp [zu]) ?_
  refine zm_topi (y := nI (mM X)) (hM.1) ?_
  refine lv_iconst (v := 1) hx hb dX3_moves_32 (by decide) ?_
  refine lv_iadd hx hb dX3_moves_33 ?_
  refine zm_topi (y := nI (mM X + 1)) (nI_1 (mM X)) ?_
  refine zx_put hx hb hown hts hK hX hS 23 (by decide) rfl q1044 rfl rfl rfl rfl dX3_moves_34 (fun H locs hX hS => ?_)
  have e2 : zu (zu (zu (zu X 5 q to) 24 (mM X) (nI q)) 25 (mM X) to) 23 0 (nI (mM X + 1)) = m_moves X q to := by first | rfl | (simp [m_moves, mM_w, zu])
  rw [e2] at hX
  exact ze_v hx hb hr hlocks hS dX3_moves_37 (Nat.le_refl _) (Nat.le_refl _) () trivial hX
theorem zn_X3_ends : zN yX3_ends 1 := by decide +kernel
set_option maxHeartbeats 4000000 in
theorem ct_X3_ends (l : Launch) (g : zG) (A : Nat → Prop) (mo : Nat) (ma : Nat → Nat) (X : zX) (q : Nat) (hI : MH X) (hq : q < mN X) : Met l yX3_ends (ws_ yX3_ends cX3_ends 2 none) (zR 2 0 0) (zP [.ref mo, .int (nI q)] g A (zMX g A mo ma X)) (va_Qv (fun (_ : Unit) => True) (fun (_ : Unit) t => zMX g A mo ma (m_ends X q) t.heap) A) 0 0 A := by
  refine zb_met (by decide) (Nat.le_of_ble_eq_true rfl) ?_
  intro p e s m args below meth c ls hx hb hr hml hown hts hlocks hnm hK hX ha hl
  have hown : s.vm.findClass RX3 = some m.cls := hown
  have hS : va_S A s.heap s.heap [] := va_S.rf
  have hl : lv_has ls 2 [(0, .ref mo), (1, .int (nI q))] := hl
  have hn60 := hI.1.2
  refine lv_aload_n hx hb dX3_ends_0 rfl (lv_at hl 0 rfl) ?_
  refine zx_get hx hb hown hts hK hX 11 (by decide) q1032 rfl rfl dX3_ends_1 ?_
  refine lv_aload_n hx hb dX3_ends_4 rfl (lv_at hl 0 rfl) ?_
  refine lv_iload_n hx hb dX3_ends_5 rfl (lv_at hl 1 rfl) ?_
  refine zc_i (zr_V (As := [.int (nI q)]) (rest := [.ref (ma 11)]) ⟨hx, hb, hml, hown, hts⟩ (ct_X3_headOf l g A mo ma X q hI (by assumption)) zn_X3_headOf (lw_V q1153 q1155 qs18 q48 q1156) rfl (by decide) (by decide) hK (fun _ h => h) hS hX (zx_recv hK hX) rfl hl.1 (Nat.le_of_ble_eq_true rfl) dX3_ends_6 ⟨Nat.le_refl _, Nat.le_refl _⟩) hS (fun _ h => h) (fun r _ H locs r_1 hX _ _ hS => ?_)
  subst r_1
  have hlt := mHd_lt hI hq
  refine lv_iconst (v := 0) hx hb dX3_ends_9 (by decide) ?_
  refine zx_stz (i := mHd X q) hx hb hK hX hS 11 rfl rfl (n := 60) rfl (by omega) (Or.inl rfl) dX3_ends_10 (fun H locs hX hS => ?_)
  have e2 : zu X 11 (mHd X q) 0 = m_ends X q := by first | rfl | (simp [])
  rw [e2] at hX
  exact ze_v hx hb hr hlocks hS dX3_ends_11 (Nat.le_refl _) (Nat.le_refl _) () trivial hX
theorem zn_X3_waits : zN yX3_waits 1 := by decide +kernel
set_option maxHeartbeats 4000000 in
theorem ct_X3_waits (l : Launch) (g : zG) (A : Nat → Prop) (mo : Nat) (ma : Nat → Nat) (X : zX) (x : Int32) (hW : X 26 0 = nI (mW X) ∧ mW X ≤ 8) : Met l yX3_waits (ws_ yX3_waits cX3_waits 4 (some .boolean)) (zR 1 0 0) (zP [.ref mo, .int x] g A (zMX g A mo ma X)) (va_Qi (fun rz_ (_ : Unit) => rz_ = zb (mWs X x)) (fun (_ : Unit) t => zMX g A mo ma X t.heap) A) 0 0 A := by
  refine zb_met (by decide) (Nat.le_of_ble_eq_true rfl) ?_
  intro p e s m args below meth c ls hx hb hr hml hown hts hlocks hnm hK hX ha hl
  have hown : s.vm.findClass RX3 = some m.cls := hown
  have hS : va_S A s.heap s.heap [] := va_S.rf
  have hl : lv_has ls 4 [(0, .ref mo), (1, .int x)] := hl
  refine lv_iconst (v := 0) hx hb dX3_waits_0 (by decide) ?_
  refine lv_istore_n (lv' := [(2, .int 0), (0, .ref mo), (1, .int x)]) hx hb dX3_waits_1 rfl hl (by decide) rfl (fun ls hl => ?_)
  refine lv_iconst (v := 0) hx hb dX3_waits_2 (by decide) ?_
  refine lv_istore_n (lv' := [(3, .int 0), (2, .int 0), (0, .ref mo), (1, .int x)]) hx hb dX3_waits_3 rfl hl (by decide) rfl (fun ls hl => ?_)
  have L_2 : ∀ (n_1 : Nat) (j : Nat), mW X + 1 - j < n_1 → (j ≤ mW X) → ∀ (H : Heap) (locs : List Loc) (ls : Array Slot), zMX g A mo ma X H → va_S A s.heap H locs → lv_has ls 4 [(3, .int (nI j)), (2, .int (zb (zany (fun k => decide (X 27 k = x)) j))), (0, .ref mo), (1, .int x)] → W p l e (zR 1 0 0) s m args below meth c H locs 0 0 (MQ below (va_Qi (fun rz_ (_ : Unit) => rz_ = zb (mWs X x)) (fun (_ : Unit) t => zMX g A mo ma X t.heap) A) args s 0 0 A) (F0 m 4 ls []) := by
    intro n_1
    induction n_1 with
    | zero => intro j hm; exact absurd hm (Nat.not_lt_zero _)
    | succ n_1 ih =>
      intro j hm hj H locs ls hX hS hl
      have ih_3 := ih
      refine lv_iload_n hx hb dX3_waits_4 rfl (lv_at hl 0 rfl) ?_
      refine lv_aload_n hx hb dX3_waits_5 rfl (lv_at hl 2 rfl) ?_
      refine zx_get hx hb hown hts hK hX 26 (by decide) q1047 rfl rfl dX3_waits_6 ?_
      refine zm_topi (y := nI (mW X)) (hW.1) ?_
      refine zl_ge (tgt := 38) (a := j) (b := mW X) hx hb (by first | decide | omega) (by first | decide | omega) dX3_waits_9 (by decide) (fun c_4 => ?_) (fun c_4 => ?_)
      · refine lv_iload_n hx hb dX3_waits_38 rfl (lv_at hl 1 rfl) ?_
        have e1 : (zb (zany (fun k => decide (X 27 k = x)) j) : Int32) = zb (mWs X x) := by have q : j = mW X := (by omega); subst q; rfl
        exact ze_z hx hb hr hlocks hS dX3_waits_39 (Nat.le_refl _) (Nat.le_refl _) (zb_or _) () e1 hX
      · refine lv_iload_n hx hb dX3_waits_12 rfl (lv_at hl 1 rfl) ?_
        refine zl_ifne (tgt := 26) hx hb dX3_waits_13 (by decide) (fun c_5 => ?_) (fun c_5 => ?_)
        · refine lv_iconst (v := 1) hx hb dX3_waits_26 (by decide) ?_
          refine lv_goto (tgt := 31) hx hb dX3_waits_27 (by decide) ?_
          refine zm_topi (y := zb (zany (fun k => decide (X 27 k = x)) (j + 1))) (by simp [zany, zb, c_4, c_5]) ?_
          refine lv_istore_n (lv' := [(2, .int (zb (zany (fun k => decide (X 27 k = x)) (j + 1)))), (3, .int (nI j)), (0, .ref mo), (1, .int x)]) hx hb dX3_waits_31 rfl hl (by decide) rfl (fun ls hl => ?_)
          refine lv_iinc (v := nI (j + 1)) (lv' := [(3, .int (nI (j + 1))), (2, .int (zb (zany (fun k => decide (X 27 k = x)) (j + 1)))), (0, .ref mo), (1, .int x)]) hx hb dX3_waits_32 hl (k := 1) rfl (nI_1 j) (by decide) rfl (fun ls hl => ?_)
          refine lv_goto (tgt := 4) hx hb dX3_waits_35 (by decide) ?_
          exact ih_3 (j + 1) (by omega) (by omega) _ _ _ hX hS (lv_sub hl [0, 1, 2, 3] rfl)
        · refine lv_aload_n hx hb dX3_waits_16 rfl (lv_at hl 2 rfl) ?_
          refine zx_get hx hb hown hts hK hX 27 (by decide) q1048 rfl rfl dX3_waits_17 ?_
          refine lv_iload_n hx hb dX3_waits_20 rfl (lv_at hl 0 rfl) ?_
          refine zx_ld (i := j) hx hb hK hX 27 rfl rfl (n := 8) rfl (by omega) dX3_waits_21 ?_
          refine lv_iload_n hx hb dX3_waits_22 rfl (lv_at hl 3 rfl) ?_
          refine lv_icmp_ne (tgt := 30) hx hb dX3_waits_23 (by decide) (fun c_6 => ?_) (fun c_6 => ?_)
          · refine lv_iconst (v := 0) hx hb dX3_waits_30 (by decide) ?_
            refine zm_topi (y := zb (zany (fun k => decide (X 27 k = x)) (j + 1))) (by simp [zany, zb, c_4, c_5, c_6]) ?_
            refine lv_istore_n (lv' := [(2, .int (zb (zany (fun k => decide (X 27 k = x)) (j + 1)))), (3, .int (nI j)), (0, .ref mo), (1, .int x)]) hx hb dX3_waits_31 rfl hl (by decide) rfl (fun ls hl => ?_)
            refine lv_iinc (v := nI (j + 1)) (lv' := [(3, .int (nI (j + 1))), (2, .int (zb (zany (fun k => decide (X 27 k = x)) (j + 1)))), (0, .ref mo), (1, .int x)]) hx hb dX3_waits_32 hl (k := 1) rfl (nI_1 j) (by decide) rfl (fun ls hl => ?_)
            refine lv_goto (tgt := 4) hx hb dX3_waits_35 (by decide) ?_
            exact ih_3 (j + 1) (by omega) (by omega) _ _ _ hX hS (lv_sub hl [0, 1, 2, 3] rfl)
          · refine lv_iconst (v := 1) hx hb dX3_waits_26 (by decide) ?_
            refine lv_goto (tgt := 31) hx hb dX3_waits_27 (by decide) ?_
            refine zm_topi (y := zb (zany (fun k => decide (X 27 k = x)) (j + 1))) (by simp [zany, zb, c_4, c_5, c_6]) ?_
            refine lv_istore_n (lv' := [(2, .int (zb (zany (fun k => decide (X 27 k = x)) (j + 1)))), (3, .int (nI j)), (0, .ref mo), (1, .int x)]) hx hb dX3_waits_31 rfl hl (by decide) rfl (fun ls hl => ?_)
            refine lv_iinc (v := nI (j + 1)) (lv' := [(3, .int (nI (j + 1))), (2, .int (zb (zany (fun k => decide (X 27 k = x)) (j + 1)))), (0, .ref mo), (1, .int x)]) hx hb dX3_waits_32 hl (k := 1) rfl (nI_1 j) (by decide) rfl (fun ls hl => ?_)
            refine lv_goto (tgt := 4) hx hb dX3_waits_35 (by decide) ?_
            exact ih_3 (j + 1) (by omega) (by omega) _ _ _ hX hS (lv_sub hl [0, 1, 2, 3] rfl)
  exact L_2 ((mW X + 1 - 0) + 1) 0 (Nat.lt_succ_self _) (by omega) _ _ _ hX hS (lv_sub hl [0, 1, 2, 3] rfl)
theorem zn_X3_factor : zN yX3_factor 1 := by decide +kernel
set_option maxHeartbeats 4000000 in
theorem ct_X3_factor (l : Launch) (g : zG) (A : Nat → Prop) (B : Heap → Prop) (z : Int32) : Met l yX3_factor (ws_ yX3_factor cX3_factor 1 (some .int)) (zR 1 0 0) (zP [.int z] g A B) (va_Qi (fun rz_ (_ : Unit) => rz_ = mFa z) (fun (_ : Unit) t => B t.heap) A) 0 0 A := by
  refine zb_met (by decide) (Nat.le_of_ble_eq_true rfl) ?_
  intro p e s m args below meth c ls hx hb hr hml hown hts hlocks hnm hK hB ha hl
  have hown : s.vm.findClass RX3 = some m.cls := hown
  have hS : va_S A s.heap s.heap [] := va_S.rf
  have hl : lv_has ls 1 [(0, .int z)] := hl
  refine lv_iload_n hx hb dX3_factor_0 rfl (lv_at hl 0 rfl) ?_
  refine lv_iconst (v := 3) hx hb dX3_factor_1 (by decide) ?_
  refine lv_icmp_ne (tgt := 9) hx hb dX3_factor_2 (by decide) (fun c_1 => ?_) (fun c_1 => ?_)
  · refine lv_iload_n hx hb dX3_factor_9 rfl (lv_at hl 0 rfl) ?_
    refine lv_iconst (v := 1) hx hb dX3_factor_10 (by decide) ?_
    refine lv_iadd hx hb dX3_factor_11 ?_
    have e1 : (z + 1 : Int32) = mFa z := by first | rfl | (simp [mFa, c_1])
    exact ze_i hx hb hr hlocks hS dX3_factor_12 (Nat.le_refl _) (Nat.le_refl _) () e1 hB
  · refine lv_iconst (v := 2) hx hb dX3_factor_5 (by decide) ?_
    refine lv_goto (tgt := 12) hx hb dX3_factor_6 (by decide) ?_
    have e1 : (2 : Int32) = mFa z := by first | rfl | (simp [mFa, c_1])
    exact ze_i hx hb hr hlocks hS dX3_factor_12 (Nat.le_refl _) (Nat.le_refl _) () e1 hB
theorem zn_X3_fit : zN yX3_fit 2 := by decide +kernel
set_option maxHeartbeats 4000000 in
theorem ct_X3_fit (l : Launch) (g : zG) (A : Nat → Prop) (mo : Nat) (ma : Nat → Nat) (X : zX) (x : Int32) (y : Int32) (hI : MH X) (hz12 : ∀ p, X 12 p = 0 ∨ X 12 p = 1) (hM : X 23 0 = nI (mM X) ∧ mM X < 3000) : Met l yX3_fit (ws_ yX3_fit cX3_fit 5 (some .int)) (zR 3 0 0) (zP [.ref mo, .int x, .int y] g A (zMX g A mo ma X)) (va_Qi (fun rz_ (_ : Unit) => rz_ = (m_fit X x y).1) (fun (_ : Unit) t => zMX g A mo ma ((m_fit X x y).2) t.heap) A) 0 0 A := by
  refine zb_met (by decide) (Nat.le_of_ble_eq_true rfl) ?_
  intro p e s m args below meth c ls hx hb hr hml hown hts hlocks hnm hK hX ha hl
  have hown : s.vm.findClass RX3 = some m.cls := hown
  have hS : va_S A s.heap s.heap [] := va_S.rf
  have hl : lv_has ls 5 [(0, .ref mo), (1, .int x), (2, .int y)] := hl
  have hn60 := hI.1.2
  refine lv_aload_n hx hb dX3_fit_0 rfl (lv_at hl 0 rfl) ?_
  refine lv_aload_n hx hb dX3_fit_1 rfl (lv_at hl 0 rfl) ?_
  refine lv_iload_n hx hb dX3_fit_2 rfl (lv_at hl 1 rfl) ?_
  refine zc_i (zr_V (As := [.int x]) (rest := [.ref mo]) ⟨hx, hb, hml, hown, hts⟩ (ct_X3_isPart l g A mo ma X x) zn_X3_isPart (lw_V q1142 q1144 qs16 q48 q1145) rfl (by decide) (by decide) hK (fun _ h => h) hS hX (zx_recv hK hX) rfl hl.1 (Nat.le_of_ble_eq_true rfl) dX3_fit_3 ⟨Nat.le_refl _, Nat.le_refl _⟩) hS (fun _ h => h) (fun r _ H locs r_1 hX _ _ hS => ?_)
  subst r_1
  refine zl_ifeq (tgt := 17) hx hb dX3_fit_6 (by decide) (fun c_2 => ?_) (fun c_2 => ?_)
  · refine lv_iconst (v := 1) hx hb dX3_fit_17 (by decide) ?_
    refine lv_goto (tgt := 44) hx hb dX3_fit_18 (by decide) ?_
    refine zx_put hx hb hown hts hK hX hS 0 (by decide) rfl q1021 rfl rfl rfl rfl dX3_fit_44 (fun H locs hX hS => ?_)
    refine lv_aload_n hx hb dX3_fit_47 rfl (lv_at hl 0 rfl) ?_
    refine zx_get hx hb hown hts hK hX 0 (by decide) q1021 rfl rfl dX3_fit_48 ?_
    refine zm_topi (y := 1) (by simp [zu]) ?_
    refine lv_if_le (tgt := 56) hx hb dX3_fit_51 (by decide) (fun c_3 => absurd c_3 (by decide)) (fun _ => ?_)
    refine lv_iconst (v := 0) hx hb dX3_fit_54 (by decide) ?_
    have e1 : (0 : Int32) = (m_fit X x y).1 := by simp [m_fit, mCan, mHd_w, mIn_w, zu_zu, m_ends, c_2]
    have e2 : zu X 0 0 1 = (m_fit X x y).2 := by simp [m_fit, mCan, mHd_w, mIn_w, zu_zu, c_2]
    rw [e2] at hX
    exact ze_i hx hb hr hlocks hS dX3_fit_55 (Nat.le_refl _) (Nat.le_refl _) () e1 hX
  · obtain ⟨p, hp, rfl⟩ := mIs_t hI c_2
    have hcp : (nI p).toNatClampNeg = p := nI_clamp (by omega)
    refine lv_aload_n hx hb dX3_fit_9 rfl (lv_at hl 0 rfl) ?_
    refine lv_iload_n hx hb dX3_fit_10 rfl (lv_at hl 2 rfl) ?_
    refine zc_i (zr_V (As := [.int y]) (rest := [.ref mo]) ⟨hx, hb, hml, hown, hts⟩ (ct_X3_isPart l g A mo ma X y) zn_X3_isPart (lw_V q1142 q1144 qs16 q48 q1145) rfl (by decide) (by decide) hK (fun _ h => h) hS hX (zx_recv hK hX) rfl hl.1 (Nat.le_of_ble_eq_true rfl) dX3_fit_11 ⟨Nat.le_refl _, Nat.le_refl _⟩) hS (fun _ h => h) (fun r _ H locs r_4 hX _ _ hS => ?_)
    subst r_4
    refine zl_ifne (tgt := 21) hx hb dX3_fit_14 (by decide) (fun c_5 => ?_) (fun c_5 => ?_)
    · obtain ⟨h, hh, rfl⟩ := mIs_t hI c_5
      have hch : (nI h).toNatClampNeg = h := nI_clamp (by omega)
      refine lv_aload_n hx hb dX3_fit_21 rfl (lv_at hl 0 rfl) ?_
      refine zx_get hx hb hown hts hK hX 2 (by decide) q1023 rfl rfl dX3_fit_22 ?_
      refine lv_iload_n hx hb dX3_fit_25 rfl (lv_at hl 2 rfl) ?_
      refine zx_ld (i := h) hx hb hK hX 2 rfl rfl (n := 60) rfl (by omega) dX3_fit_26 ?_
      refine lv_aload_n hx hb dX3_fit_27 rfl (lv_at hl 0 rfl) ?_
      refine zx_get hx hb hown hts hK hX 2 (by decide) q1023 rfl rfl dX3_fit_28 ?_
      refine lv_iload_n hx hb dX3_fit_31 rfl (lv_at hl 1 rfl) ?_
      refine zx_ld (i := p) hx hb hK hX 2 rfl rfl (n := 60) rfl (by omega) dX3_fit_32 ?_
      refine zc_i (zr_S (As := [.int (X 2 h), .int (X 2 p)]) (rest := [.ref mo]) ⟨hx, hb, hml, hown, hts⟩ (ct_X3_places l g A (zMX g A mo ma X) (X 2 h) (X 2 p)) zn_X3_places (lw_S q1146 q1147 q48 q1148) (by decide) (by decide) hK (fun _ h => h) hS hX rfl hl.1 (Nat.le_of_ble_eq_true rfl) dX3_fit_33 ⟨Nat.le_refl _, Nat.le_refl _⟩) hS (fun _ h => h) (fun r _ H locs r_6 hX _ _ hS => ?_)
      subst r_6
      refine lv_if_ne (tgt := 43) hx hb dX3_fit_36 (by decide) (fun c_7 => ?_) (fun c_7 => ?_)
      · refine lv_iconst (v := 0) hx hb dX3_fit_43 (by decide) ?_
        refine zx_put hx hb hown hts hK hX hS 0 (by decide) rfl q1021 rfl rfl rfl rfl dX3_fit_44 (fun H locs hX hS => ?_)
        refine lv_aload_n hx hb dX3_fit_47 rfl (lv_at hl 0 rfl) ?_
        refine zx_get hx hb hown hts hK hX 0 (by decide) q1021 rfl rfl dX3_fit_48 ?_
        refine zm_topi (y := 0) (by simp [zu]) ?_
        refine lv_if_le (tgt := 56) hx hb dX3_fit_51 (by decide) (fun _ => ?_) (fun c_8 => absurd (by decide) c_8)
        refine lv_aload_n hx hb dX3_fit_56 rfl (lv_at hl 0 rfl) ?_
        refine zx_get hx hb hown hts hK hX 5 (by decide) q1026 rfl rfl dX3_fit_57 ?_
        refine lv_iload_n hx hb dX3_fit_60 rfl (lv_at hl 1 rfl) ?_
        refine zx_ld (i := p) hx hb hK hX 5 rfl rfl (n := 60) rfl (by omega) dX3_fit_61 ?_
        refine zm_topi (y := X 5 p) (by simp [zu]) ?_
        refine lv_iconst (v := (-1)) hx hb dX3_fit_62 (by decide) ?_
        refine lv_icmp_ne (tgt := 98) hx hb dX3_fit_63 (by decide) (fun c_9 => ?_) (fun c_9 => ?_)
        · refine lv_iconst (v := 0) hx hb dX3_fit_98 (by decide) ?_
          refine lv_istore_n (lv' := [(3, .int 0), (0, .ref mo), (1, .int (nI p)), (2, .int (nI h))]) hx hb dX3_fit_99 rfl hl (by decide) rfl (fun ls hl => ?_)
          refine lv_aload_n hx hb dX3_fit_100 rfl (lv_at hl 1 rfl) ?_
          refine zx_get hx hb hown hts hK hX 4 (by decide) q1025 rfl rfl dX3_fit_101 ?_
          refine lv_iload_n hx hb dX3_fit_104 rfl (lv_at hl 2 rfl) ?_
          refine zx_ld (i := p) hx hb hK hX 4 rfl rfl (n := 60) rfl (by omega) dX3_fit_105 ?_
          refine zm_topi (y := X 4 p) (by simp [zu]) ?_
          refine lv_aload_n hx hb dX3_fit_106 rfl (lv_at hl 1 rfl) ?_
          refine zx_get hx hb hown hts hK hX 4 (by decide) q1025 rfl rfl dX3_fit_107 ?_
          refine lv_iload_n hx hb dX3_fit_110 rfl (lv_at hl 3 rfl) ?_
          refine zx_ld (i := h) hx hb hK hX 4 rfl rfl (n := 60) rfl (by omega) dX3_fit_111 ?_
          refine zm_topi (y := X 4 h) (by simp [zu]) ?_
          refine lv_isub hx hb dX3_fit_112 ?_
          refine lv_istore (lv' := [(4, .int ((X 4 p) - (X 4 h))), (3, .int 0), (0, .ref mo), (1, .int (nI p)), (2, .int (nI h))]) hx hb dX3_fit_113 hl (by decide) rfl (fun ls hl => ?_)
          refine lv_iload_n hx hb dX3_fit_115 rfl (lv_at hl 1 rfl) ?_
          refine lv_if_eq (tgt := 164) hx hb dX3_fit_116 (by decide) (fun _ => ?_) (fun c_10 => absurd (by decide) c_10)
          refine lv_iconst (v := 0) hx hb dX3_fit_164 (by decide) ?_
          refine lv_istore_n (lv' := [(3, .int 0), (4, .int ((X 4 p) - (X 4 h))), (0, .ref mo), (1, .int (nI p)), (2, .int (nI h))]) hx hb dX3_fit_165 rfl hl (by decide) rfl (fun ls hl => ?_)
          refine lv_aload_n hx hb dX3_fit_166 rfl (lv_at hl 2 rfl) ?_
          refine lv_iload_n hx hb dX3_fit_167 rfl (lv_at hl 0 rfl) ?_
          refine lv_if_eq (tgt := 175) hx hb dX3_fit_168 (by decide) (fun _ => ?_) (fun c_11 => absurd (by decide) c_11)
          refine lv_iconst (v := 3) hx hb dX3_fit_175 (by decide) ?_
          refine zx_put hx hb hown hts hK hX hS 0 (by decide) rfl q1021 rfl rfl rfl rfl dX3_fit_176 (fun H locs hX hS => ?_)
          rw [zu_zu] at hX
          refine lv_aload_n hx hb dX3_fit_179 rfl (lv_at hl 2 rfl) ?_
          refine zx_get hx hb hown hts hK hX 0 (by decide) q1021 rfl rfl dX3_fit_180 ?_
          refine zm_topi (y := 3) (by simp [zu]) ?_
          refine lv_if_le (tgt := 188) hx hb dX3_fit_183 (by decide) (fun c_12 => absurd c_12 (by decide)) (fun _ => ?_)
          refine lv_iconst (v := 0) hx hb dX3_fit_186 (by decide) ?_
          have e1 : (0 : Int32) = (m_fit X (nI p) (nI h)).1 := by simp [m_fit, mCan, mHd_w, mIn_w, zu_zu, m_ends, hcp, hch, c_2, c_5, c_7, c_9]
          have e2 : zu X 0 0 3 = (m_fit X (nI p) (nI h)).2 := by simp [m_fit, mCan, mHd_w, mIn_w, zu_zu, hcp, hch, c_2, c_5, c_7, c_9]
          rw [e2] at hX
          exact ze_i hx hb hr hlocks hS dX3_fit_187 (Nat.le_refl _) (Nat.le_refl _) () e1 hX
        · refine lv_aload_n hx hb dX3_fit_66 rfl (lv_at hl 0 rfl) ?_
          refine zx_get hx hb hown hts hK hX 9 (by decide) q1030 rfl rfl dX3_fit_67 ?_
          refine lv_iload_n hx hb dX3_fit_70 rfl (lv_at hl 1 rfl) ?_
          refine zx_ldz (i := p) hx hb hK hX 9 rfl rfl (n := 60) rfl (by omega) dX3_fit_71 ?_
          refine zm_topi (y := X 9 p) (by simp [zu]) ?_
          refine lv_if_ne (tgt := 98) hx hb dX3_fit_72 (by decide) (fun c_13 => ?_) (fun c_13 => ?_)
          · refine lv_iconst (v := 0) hx hb dX3_fit_98 (by decide) ?_
            refine lv_istore_n (lv' := [(3, .int 0), (0, .ref mo), (1, .int (nI p)), (2, .int (nI h))]) hx hb dX3_fit_99 rfl hl (by decide) rfl (fun ls hl => ?_)
            refine lv_aload_n hx hb dX3_fit_100 rfl (lv_at hl 1 rfl) ?_
            refine zx_get hx hb hown hts hK hX 4 (by decide) q1025 rfl rfl dX3_fit_101 ?_
            refine lv_iload_n hx hb dX3_fit_104 rfl (lv_at hl 2 rfl) ?_
            refine zx_ld (i := p) hx hb hK hX 4 rfl rfl (n := 60) rfl (by omega) dX3_fit_105 ?_
            refine zm_topi (y := X 4 p) (by simp [zu]) ?_
            refine lv_aload_n hx hb dX3_fit_106 rfl (lv_at hl 1 rfl) ?_
            refine zx_get hx hb hown hts hK hX 4 (by decide) q1025 rfl rfl dX3_fit_107 ?_
            refine lv_iload_n hx hb dX3_fit_110 rfl (lv_at hl 3 rfl) ?_
            refine zx_ld (i := h) hx hb hK hX 4 rfl rfl (n := 60) rfl (by omega) dX3_fit_111 ?_
            refine zm_topi (y := X 4 h) (by simp [zu]) ?_
            refine lv_isub hx hb dX3_fit_112 ?_
            refine lv_istore (lv' := [(4, .int ((X 4 p) - (X 4 h))), (3, .int 0), (0, .ref mo), (1, .int (nI p)), (2, .int (nI h))]) hx hb dX3_fit_113 hl (by decide) rfl (fun ls hl => ?_)
            refine lv_iload_n hx hb dX3_fit_115 rfl (lv_at hl 1 rfl) ?_
            refine lv_if_eq (tgt := 164) hx hb dX3_fit_116 (by decide) (fun _ => ?_) (fun c_14 => absurd (by decide) c_14)
            refine lv_iconst (v := 0) hx hb dX3_fit_164 (by decide) ?_
            refine lv_istore_n (lv' := [(3, .int 0), (4, .int ((X 4 p) - (X 4 h))), (0, .ref mo), (1, .int (nI p)), (2, .int (nI h))]) hx hb dX3_fit_165 rfl hl (by decide) rfl (fun ls hl => ?_)
            refine lv_aload_n hx hb dX3_fit_166 rfl (lv_at hl 2 rfl) ?_
            refine lv_iload_n hx hb dX3_fit_167 rfl (lv_at hl 0 rfl) ?_
            refine lv_if_eq (tgt := 175) hx hb dX3_fit_168 (by decide) (fun _ => ?_) (fun c_15 => absurd (by decide) c_15)
            refine lv_iconst (v := 3) hx hb dX3_fit_175 (by decide) ?_
            refine zx_put hx hb hown hts hK hX hS 0 (by decide) rfl q1021 rfl rfl rfl rfl dX3_fit_176 (fun H locs hX hS => ?_)
            rw [zu_zu] at hX
            refine lv_aload_n hx hb dX3_fit_179 rfl (lv_at hl 2 rfl) ?_
            refine zx_get hx hb hown hts hK hX 0 (by decide) q1021 rfl rfl dX3_fit_180 ?_
            refine zm_topi (y := 3) (by simp [zu]) ?_
            refine lv_if_le (tgt := 188) hx hb dX3_fit_183 (by decide) (fun c_16 => absurd c_16 (by decide)) (fun _ => ?_)
            refine lv_iconst (v := 0) hx hb dX3_fit_186 (by decide) ?_
            have e1 : (0 : Int32) = (m_fit X (nI p) (nI h)).1 := by simp [m_fit, mCan, mHd_w, mIn_w, zu_zu, m_ends, hcp, hch, c_2, c_5, c_7, c_9, c_13]
            have e2 : zu X 0 0 3 = (m_fit X (nI p) (nI h)).2 := by simp [m_fit, mCan, mHd_w, mIn_w, zu_zu, hcp, hch, c_2, c_5, c_7, c_9, c_13]
            rw [e2] at hX
            exact ze_i hx hb hr hlocks hS dX3_fit_187 (Nat.le_refl _) (Nat.le_refl _) () e1 hX
          · refine lv_aload_n hx hb dX3_fit_75 rfl (lv_at hl 0 rfl) ?_
            refine zx_get hx hb hown hts hK hX 5 (by decide) q1026 rfl rfl dX3_fit_76 ?_
            refine lv_iload_n hx hb dX3_fit_79 rfl (lv_at hl 2 rfl) ?_
            refine zx_ld (i := h) hx hb hK hX 5 rfl rfl (n := 60) rfl (by omega) dX3_fit_80 ?_
            refine zm_topi (y := X 5 h) (by simp [zu]) ?_
            refine lv_bipush (v := (-2)) hx hb dX3_fit_81 (by decide) ?_
            refine lv_icmp_eq (tgt := 98) hx hb dX3_fit_83 (by decide) (fun c_17 => ?_) (fun c_17 => ?_)
            · refine lv_iconst (v := 0) hx hb dX3_fit_98 (by decide) ?_
              refine lv_istore_n (lv' := [(3, .int 0), (0, .ref mo), (1, .int (nI p)), (2, .int (nI h))]) hx hb dX3_fit_99 rfl hl (by decide) rfl (fun ls hl => ?_)
              refine lv_aload_n hx hb dX3_fit_100 rfl (lv_at hl 1 rfl) ?_
              refine zx_get hx hb hown hts hK hX 4 (by decide) q1025 rfl rfl dX3_fit_101 ?_
              refine lv_iload_n hx hb dX3_fit_104 rfl (lv_at hl 2 rfl) ?_
              refine zx_ld (i := p) hx hb hK hX 4 rfl rfl (n := 60) rfl (by omega) dX3_fit_105 ?_
              refine zm_topi (y := X 4 p) (by simp [zu]) ?_
              refine lv_aload_n hx hb dX3_fit_106 rfl (lv_at hl 1 rfl) ?_
              refine zx_get hx hb hown hts hK hX 4 (by decide) q1025 rfl rfl dX3_fit_107 ?_
              refine lv_iload_n hx hb dX3_fit_110 rfl (lv_at hl 3 rfl) ?_
              refine zx_ld (i := h) hx hb hK hX 4 rfl rfl (n := 60) rfl (by omega) dX3_fit_111 ?_
              refine zm_topi (y := X 4 h) (by simp [zu]) ?_
              refine lv_isub hx hb dX3_fit_112 ?_
              refine lv_istore (lv' := [(4, .int ((X 4 p) - (X 4 h))), (3, .int 0), (0, .ref mo), (1, .int (nI p)), (2, .int (nI h))]) hx hb dX3_fit_113 hl (by decide) rfl (fun ls hl => ?_)
              refine lv_iload_n hx hb dX3_fit_115 rfl (lv_at hl 1 rfl) ?_
              refine lv_if_eq (tgt := 164) hx hb dX3_fit_116 (by decide) (fun _ => ?_) (fun c_18 => absurd (by decide) c_18)
              refine lv_iconst (v := 0) hx hb dX3_fit_164 (by decide) ?_
              refine lv_istore_n (lv' := [(3, .int 0), (4, .int ((X 4 p) - (X 4 h))), (0, .ref mo), (1, .int (nI p)), (2, .int (nI h))]) hx hb dX3_fit_165 rfl hl (by decide) rfl (fun ls hl => ?_)
              refine lv_aload_n hx hb dX3_fit_166 rfl (lv_at hl 2 rfl) ?_
              refine lv_iload_n hx hb dX3_fit_167 rfl (lv_at hl 0 rfl) ?_
              refine lv_if_eq (tgt := 175) hx hb dX3_fit_168 (by decide) (fun _ => ?_) (fun c_19 => absurd (by decide) c_19)
              refine lv_iconst (v := 3) hx hb dX3_fit_175 (by decide) ?_
              refine zx_put hx hb hown hts hK hX hS 0 (by decide) rfl q1021 rfl rfl rfl rfl dX3_fit_176 (fun H locs hX hS => ?_)
              rw [zu_zu] at hX
              refine lv_aload_n hx hb dX3_fit_179 rfl (lv_at hl 2 rfl) ?_
              refine zx_get hx hb hown hts hK hX 0 (by decide) q1021 rfl rfl dX3_fit_180 ?_
              refine zm_topi (y := 3) (by simp [zu]) ?_
              refine lv_if_le (tgt := 188) hx hb dX3_fit_183 (by decide) (fun c_20 => absurd c_20 (by decide)) (fun _ => ?_)
              refine lv_iconst (v := 0) hx hb dX3_fit_186 (by decide) ?_
              have e1 : (0 : Int32) = (m_fit X (nI p) (nI h)).1 := by simp [m_fit, mCan, mHd_w, mIn_w, zu_zu, m_ends, hcp, hch, c_2, c_5, c_7, c_9, c_13, c_17]
              have e2 : zu X 0 0 3 = (m_fit X (nI p) (nI h)).2 := by simp [m_fit, mCan, mHd_w, mIn_w, zu_zu, hcp, hch, c_2, c_5, c_7, c_9, c_13, c_17]
              rw [e2] at hX
              exact ze_i hx hb hr hlocks hS dX3_fit_187 (Nat.le_refl _) (Nat.le_refl _) () e1 hX
            · refine lv_aload_n hx hb dX3_fit_86 rfl (lv_at hl 0 rfl) ?_
              refine lv_iload_n hx hb dX3_fit_87 rfl (lv_at hl 2 rfl) ?_
              refine zc_i (zr_V (As := [.int (nI h)]) (rest := []) ⟨hx, hb, hml, hown, hts⟩ (ct_X3_isBound l g A mo ma (zu X 0 0 0) h (hI.w 0 0 0 (by decide) (by decide) (by decide)) (by have hz_ := show h < mN X from hh; simpa [mN_w, m_moves, m_ends, mN_goes, mN_hl] using hz_) (by intro p; simpa [zu, m_moves, m_ends] using hz12 p)) zn_X3_isBound (lw_V q1149 q1151 qs17 q48 q1152) rfl (by decide) (by decide) hK (fun _ h => h) hS hX (zx_recv hK hX) rfl hl.1 (Nat.le_of_ble_eq_true rfl) dX3_fit_88 ⟨Nat.le_refl _, Nat.le_refl _⟩) hS (fun _ h => h) (fun r _ H locs r_21 hX _ _ hS => ?_)
              subst r_21
              refine zm_topi (y := X 12 (mHd X h)) (by simp [mN_w, mIs_w, mKc_w, mHd_w, mIi_w, mIn_w, mK_w, mH_w, mM_w, mW_w, zu]) ?_
              refine lv_if_ne (tgt := 98) hx hb dX3_fit_91 (by decide) (fun c_22 => ?_) (fun c_22 => ?_)
              · refine lv_iconst (v := 0) hx hb dX3_fit_98 (by decide) ?_
                refine lv_istore_n (lv' := [(3, .int 0), (0, .ref mo), (1, .int (nI p)), (2, .int (nI h))]) hx hb dX3_fit_99 rfl hl (by decide) rfl (fun ls hl => ?_)
                refine lv_aload_n hx hb dX3_fit_100 rfl (lv_at hl 1 rfl) ?_
                refine zx_get hx hb hown hts hK hX 4 (by decide) q1025 rfl rfl dX3_fit_101 ?_
                refine lv_iload_n hx hb dX3_fit_104 rfl (lv_at hl 2 rfl) ?_
                refine zx_ld (i := p) hx hb hK hX 4 rfl rfl (n := 60) rfl (by omega) dX3_fit_105 ?_
                refine zm_topi (y := X 4 p) (by simp [zu]) ?_
                refine lv_aload_n hx hb dX3_fit_106 rfl (lv_at hl 1 rfl) ?_
                refine zx_get hx hb hown hts hK hX 4 (by decide) q1025 rfl rfl dX3_fit_107 ?_
                refine lv_iload_n hx hb dX3_fit_110 rfl (lv_at hl 3 rfl) ?_
                refine zx_ld (i := h) hx hb hK hX 4 rfl rfl (n := 60) rfl (by omega) dX3_fit_111 ?_
                refine zm_topi (y := X 4 h) (by simp [zu]) ?_
                refine lv_isub hx hb dX3_fit_112 ?_
                refine lv_istore (lv' := [(4, .int ((X 4 p) - (X 4 h))), (3, .int 0), (0, .ref mo), (1, .int (nI p)), (2, .int (nI h))]) hx hb dX3_fit_113 hl (by decide) rfl (fun ls hl => ?_)
                refine lv_iload_n hx hb dX3_fit_115 rfl (lv_at hl 1 rfl) ?_
                refine lv_if_eq (tgt := 164) hx hb dX3_fit_116 (by decide) (fun _ => ?_) (fun c_23 => absurd (by decide) c_23)
                refine lv_iconst (v := 0) hx hb dX3_fit_164 (by decide) ?_
                refine lv_istore_n (lv' := [(3, .int 0), (4, .int ((X 4 p) - (X 4 h))), (0, .ref mo), (1, .int (nI p)), (2, .int (nI h))]) hx hb dX3_fit_165 rfl hl (by decide) rfl (fun ls hl => ?_)
                refine lv_aload_n hx hb dX3_fit_166 rfl (lv_at hl 2 rfl) ?_
                refine lv_iload_n hx hb dX3_fit_167 rfl (lv_at hl 0 rfl) ?_
                refine lv_if_eq (tgt := 175) hx hb dX3_fit_168 (by decide) (fun _ => ?_) (fun c_24 => absurd (by decide) c_24)
                refine lv_iconst (v := 3) hx hb dX3_fit_175 (by decide) ?_
                refine zx_put hx hb hown hts hK hX hS 0 (by decide) rfl q1021 rfl rfl rfl rfl dX3_fit_176 (fun H locs hX hS => ?_)
                rw [zu_zu] at hX
                refine lv_aload_n hx hb dX3_fit_179 rfl (lv_at hl 2 rfl) ?_
                refine zx_get hx hb hown hts hK hX 0 (by decide) q1021 rfl rfl dX3_fit_180 ?_
                refine zm_topi (y := 3) (by simp [zu]) ?_
                refine lv_if_le (tgt := 188) hx hb dX3_fit_183 (by decide) (fun c_25 => absurd c_25 (by decide)) (fun _ => ?_)
                refine lv_iconst (v := 0) hx hb dX3_fit_186 (by decide) ?_
                have e1 : (0 : Int32) = (m_fit X (nI p) (nI h)).1 := by simp [m_fit, mCan, mHd_w, mIn_w, zu_zu, m_ends, hcp, hch, c_2, c_5, c_7, c_9, c_13, c_17, c_22]
                have e2 : zu X 0 0 3 = (m_fit X (nI p) (nI h)).2 := by simp [m_fit, mCan, mHd_w, mIn_w, zu_zu, hcp, hch, c_2, c_5, c_7, c_9, c_13, c_17, c_22]
                rw [e2] at hX
                exact ze_i hx hb hr hlocks hS dX3_fit_187 (Nat.le_refl _) (Nat.le_refl _) () e1 hX
              · refine lv_iconst (v := 1) hx hb dX3_fit_94 (by decide) ?_
                refine lv_goto (tgt := 99) hx hb dX3_fit_95 (by decide) ?_
                refine lv_istore_n (lv' := [(3, .int 1), (0, .ref mo), (1, .int (nI p)), (2, .int (nI h))]) hx hb dX3_fit_99 rfl hl (by decide) rfl (fun ls hl => ?_)
                refine lv_aload_n hx hb dX3_fit_100 rfl (lv_at hl 1 rfl) ?_
                refine zx_get hx hb hown hts hK hX 4 (by decide) q1025 rfl rfl dX3_fit_101 ?_
                refine lv_iload_n hx hb dX3_fit_104 rfl (lv_at hl 2 rfl) ?_
                refine zx_ld (i := p) hx hb hK hX 4 rfl rfl (n := 60) rfl (by omega) dX3_fit_105 ?_
                refine zm_topi (y := X 4 p) (by simp [zu]) ?_
                refine lv_aload_n hx hb dX3_fit_106 rfl (lv_at hl 1 rfl) ?_
                refine zx_get hx hb hown hts hK hX 4 (by decide) q1025 rfl rfl dX3_fit_107 ?_
                refine lv_iload_n hx hb dX3_fit_110 rfl (lv_at hl 3 rfl) ?_
                refine zx_ld (i := h) hx hb hK hX 4 rfl rfl (n := 60) rfl (by omega) dX3_fit_111 ?_
                refine zm_topi (y := X 4 h) (by simp [zu]) ?_
                refine lv_isub hx hb dX3_fit_112 ?_
                refine lv_istore (lv' := [(4, .int ((X 4 p) - (X 4 h))), (3, .int 1), (0, .ref mo), (1, .int (nI p)), (2, .int (nI h))]) hx hb dX3_fit_113 hl (by decide) rfl (fun ls hl => ?_)
                refine lv_iload_n hx hb dX3_fit_115 rfl (lv_at hl 1 rfl) ?_
                refine lv_if_eq (tgt := 164) hx hb dX3_fit_116 (by decide) (fun c_26 => absurd c_26 (by decide)) (fun _ => ?_)
                refine lv_aload_n hx hb dX3_fit_119 rfl (lv_at hl 2 rfl) ?_
                refine lv_iload_n hx hb dX3_fit_120 rfl (lv_at hl 4 rfl) ?_
                refine lv_aload_n hx hb dX3_fit_121 rfl (lv_at hl 2 rfl) ?_
                refine zx_get hx hb hown hts hK hX 2 (by decide) q1023 rfl rfl dX3_fit_122 ?_
                refine lv_iload_n hx hb dX3_fit_125 rfl (lv_at hl 3 rfl) ?_
                refine zx_ld (i := p) hx hb hK hX 2 rfl rfl (n := 60) rfl (by omega) dX3_fit_126 ?_
                refine zm_topi (y := X 2 p) (by simp [zu]) ?_
                refine zc_i (zr_V (As := [.int (nI h), .int (X 2 p)]) (rest := []) ⟨hx, hb, hml, hown, hts⟩ (ct_X3_inside l g A mo ma (zu X 0 0 0) (nI h) (X 2 p) (hI.w 0 0 0 (by decide) (by decide) (by decide))) zn_X3_inside (lw_V q1157 q1159 qs19 q48 q1160) rfl (by decide) (by decide) hK (fun _ h => h) hS hX (zx_recv hK hX) rfl hl.1 (Nat.le_of_ble_eq_true rfl) dX3_fit_127 ⟨Nat.le_refl _, Nat.le_refl _⟩) hS (fun _ h => h) (fun r _ H locs r_27 hX _ _ hS => ?_)
                subst r_27
                refine zm_topi (y := nI (mIn X (nI h) (X 2 p))) (by simp [mN_w, mIs_w, mKc_w, mHd_w, mIi_w, mIn_w, mK_w, mH_w, mM_w, mW_w, zu]) ?_
                refine lv_aload_n hx hb dX3_fit_130 rfl (lv_at hl 2 rfl) ?_
                refine zx_get hx hb hown hts hK hX 2 (by decide) q1023 rfl rfl dX3_fit_131 ?_
                refine lv_iload_n hx hb dX3_fit_134 rfl (lv_at hl 4 rfl) ?_
                refine zx_ld (i := h) hx hb hK hX 2 rfl rfl (n := 60) rfl (by omega) dX3_fit_135 ?_
                refine zm_topi (y := X 2 h) (by simp [zu]) ?_
                refine lv_aload_n hx hb dX3_fit_136 rfl (lv_at hl 2 rfl) ?_
                refine zx_get hx hb hown hts hK hX 2 (by decide) q1023 rfl rfl dX3_fit_137 ?_
                refine lv_iload_n hx hb dX3_fit_140 rfl (lv_at hl 3 rfl) ?_
                refine zx_ld (i := p) hx hb hK hX 2 rfl rfl (n := 60) rfl (by omega) dX3_fit_141 ?_
                refine zm_topi (y := X 2 p) (by simp [zu]) ?_
                refine zc_i (zr_S (As := [.int (X 2 h), .int (X 2 p)]) (rest := [.int (nI (mIn X (nI h) (X 2 p)))]) ⟨hx, hb, hml, hown, hts⟩ (ct_X3_places l g A (zMX g A mo ma (zu X 0 0 0)) (X 2 h) (X 2 p)) zn_X3_places (lw_S q1146 q1147 q48 q1148) (by decide) (by decide) hK (fun _ h => h) hS hX rfl hl.1 (Nat.le_of_ble_eq_true rfl) dX3_fit_142 ⟨Nat.le_refl _, Nat.le_refl _⟩) hS (fun _ h => h) (fun r _ H locs r_28 hX _ _ hS => ?_)
                subst r_28
                refine lv_icmp_ge (tgt := 164) hx hb dX3_fit_145 (by decide) (fun c_29 => ?_) (fun c_29 => ?_)
                · refine lv_iconst (v := 0) hx hb dX3_fit_164 (by decide) ?_
                  refine lv_istore_n (lv' := [(3, .int 0), (4, .int ((X 4 p) - (X 4 h))), (0, .ref mo), (1, .int (nI p)), (2, .int (nI h))]) hx hb dX3_fit_165 rfl hl (by decide) rfl (fun ls hl => ?_)
                  refine lv_aload_n hx hb dX3_fit_166 rfl (lv_at hl 2 rfl) ?_
                  refine lv_iload_n hx hb dX3_fit_167 rfl (lv_at hl 0 rfl) ?_
                  refine lv_if_eq (tgt := 175) hx hb dX3_fit_168 (by decide) (fun _ => ?_) (fun c_30 => absurd (by decide) c_30)
                  refine lv_iconst (v := 3) hx hb dX3_fit_175 (by decide) ?_
                  refine zx_put hx hb hown hts hK hX hS 0 (by decide) rfl q1021 rfl rfl rfl rfl dX3_fit_176 (fun H locs hX hS => ?_)
                  rw [zu_zu] at hX
                  refine lv_aload_n hx hb dX3_fit_179 rfl (lv_at hl 2 rfl) ?_
                  refine zx_get hx hb hown hts hK hX 0 (by decide) q1021 rfl rfl dX3_fit_180 ?_
                  refine zm_topi (y := 3) (by simp [zu]) ?_
                  refine lv_if_le (tgt := 188) hx hb dX3_fit_183 (by decide) (fun c_31 => absurd c_31 (by decide)) (fun _ => ?_)
                  refine lv_iconst (v := 0) hx hb dX3_fit_186 (by decide) ?_
                  have e1 : (0 : Int32) = (m_fit X (nI p) (nI h)).1 := by simp [m_fit, mCan, mHd_w, mIn_w, zu_zu, m_ends, hcp, hch, c_2, c_5, c_7, c_9, c_13, c_17, c_22, c_29]
                  have e2 : zu X 0 0 3 = (m_fit X (nI p) (nI h)).2 := by simp [m_fit, mCan, mHd_w, mIn_w, zu_zu, hcp, hch, c_2, c_5, c_7, c_9, c_13, c_17, c_22, c_29]
                  rw [e2] at hX
                  exact ze_i hx hb hr hlocks hS dX3_fit_187 (Nat.le_refl _) (Nat.le_refl _) () e1 hX
                · refine lv_iload hx hb dX3_fit_148 (lv_at hl 0 rfl) ?_
                  refine lv_iconst (v := 1) hx hb dX3_fit_150 (by decide) ?_
                  refine lv_icmp_gt (tgt := 164) hx hb dX3_fit_151 (by decide) (fun c_32 => ?_) (fun c_32 => ?_)
                  · refine lv_iconst (v := 0) hx hb dX3_fit_164 (by decide) ?_
                    refine lv_istore_n (lv' := [(3, .int 0), (4, .int ((X 4 p) - (X 4 h))), (0, .ref mo), (1, .int (nI p)), (2, .int (nI h))]) hx hb dX3_fit_165 rfl hl (by decide) rfl (fun ls hl => ?_)
                    refine lv_aload_n hx hb dX3_fit_166 rfl (lv_at hl 2 rfl) ?_
                    refine lv_iload_n hx hb dX3_fit_167 rfl (lv_at hl 0 rfl) ?_
                    refine lv_if_eq (tgt := 175) hx hb dX3_fit_168 (by decide) (fun _ => ?_) (fun c_33 => absurd (by decide) c_33)
                    refine lv_iconst (v := 3) hx hb dX3_fit_175 (by decide) ?_
                    refine zx_put hx hb hown hts hK hX hS 0 (by decide) rfl q1021 rfl rfl rfl rfl dX3_fit_176 (fun H locs hX hS => ?_)
                    rw [zu_zu] at hX
                    refine lv_aload_n hx hb dX3_fit_179 rfl (lv_at hl 2 rfl) ?_
                    refine zx_get hx hb hown hts hK hX 0 (by decide) q1021 rfl rfl dX3_fit_180 ?_
                    refine zm_topi (y := 3) (by simp [zu]) ?_
                    refine lv_if_le (tgt := 188) hx hb dX3_fit_183 (by decide) (fun c_34 => absurd c_34 (by decide)) (fun _ => ?_)
                    refine lv_iconst (v := 0) hx hb dX3_fit_186 (by decide) ?_
                    have e1 : (0 : Int32) = (m_fit X (nI p) (nI h)).1 := by simp [m_fit, mCan, mHd_w, mIn_w, zu_zu, m_ends, hcp, hch, c_2, c_5, c_7, c_9, c_13, c_17, c_22, c_29, c_32]
                    have e2 : zu X 0 0 3 = (m_fit X (nI p) (nI h)).2 := by simp [m_fit, mCan, mHd_w, mIn_w, zu_zu, hcp, hch, c_2, c_5, c_7, c_9, c_13, c_17, c_22, c_29, c_32]
                    rw [e2] at hX
                    exact ze_i hx hb hr hlocks hS dX3_fit_187 (Nat.le_refl _) (Nat.le_refl _) () e1 hX
                  · refine lv_iload hx hb dX3_fit_154 (lv_at hl 0 rfl) ?_
                    refine lv_iconst (v := (-1)) hx hb dX3_fit_156 (by decide) ?_
                    refine lv_icmp_lt (tgt := 164) hx hb dX3_fit_157 (by decide) (fun c_35 => ?_) (fun c_35 => ?_)
                    · refine lv_iconst (v := 0) hx hb dX3_fit_164 (by decide) ?_
                      refine lv_istore_n (lv' := [(3, .int 0), (4, .int ((X 4 p) - (X 4 h))), (0, .ref mo), (1, .int (nI p)), (2, .int (nI h))]) hx hb dX3_fit_165 rfl hl (by decide) rfl (fun ls hl => ?_)
                      refine lv_aload_n hx hb dX3_fit_166 rfl (lv_at hl 2 rfl) ?_
                      refine lv_iload_n hx hb dX3_fit_167 rfl (lv_at hl 0 rfl) ?_
                      refine lv_if_eq (tgt := 175) hx hb dX3_fit_168 (by decide) (fun _ => ?_) (fun c_36 => absurd (by decide) c_36)
                      refine lv_iconst (v := 3) hx hb dX3_fit_175 (by decide) ?_
                      refine zx_put hx hb hown hts hK hX hS 0 (by decide) rfl q1021 rfl rfl rfl rfl dX3_fit_176 (fun H locs hX hS => ?_)
                      rw [zu_zu] at hX
                      refine lv_aload_n hx hb dX3_fit_179 rfl (lv_at hl 2 rfl) ?_
                      refine zx_get hx hb hown hts hK hX 0 (by decide) q1021 rfl rfl dX3_fit_180 ?_
                      refine zm_topi (y := 3) (by simp [zu]) ?_
                      refine lv_if_le (tgt := 188) hx hb dX3_fit_183 (by decide) (fun c_37 => absurd c_37 (by decide)) (fun _ => ?_)
                      refine lv_iconst (v := 0) hx hb dX3_fit_186 (by decide) ?_
                      have e1 : (0 : Int32) = (m_fit X (nI p) (nI h)).1 := by simp [m_fit, mCan, mHd_w, mIn_w, zu_zu, m_ends, hcp, hch, c_2, c_5, c_7, c_9, c_13, c_17, c_22, c_29, c_32, c_35]
                      have e2 : zu X 0 0 3 = (m_fit X (nI p) (nI h)).2 := by simp [m_fit, mCan, mHd_w, mIn_w, zu_zu, hcp, hch, c_2, c_5, c_7, c_9, c_13, c_17, c_22, c_29, c_32, c_35]
                      rw [e2] at hX
                      exact ze_i hx hb hr hlocks hS dX3_fit_187 (Nat.le_refl _) (Nat.le_refl _) () e1 hX
                    · refine lv_iconst (v := 1) hx hb dX3_fit_160 (by decide) ?_
                      refine lv_goto (tgt := 165) hx hb dX3_fit_161 (by decide) ?_
                      refine lv_istore_n (lv' := [(3, .int 1), (4, .int ((X 4 p) - (X 4 h))), (0, .ref mo), (1, .int (nI p)), (2, .int (nI h))]) hx hb dX3_fit_165 rfl hl (by decide) rfl (fun ls hl => ?_)
                      refine lv_aload_n hx hb dX3_fit_166 rfl (lv_at hl 2 rfl) ?_
                      refine lv_iload_n hx hb dX3_fit_167 rfl (lv_at hl 0 rfl) ?_
                      refine lv_if_eq (tgt := 175) hx hb dX3_fit_168 (by decide) (fun c_38 => absurd c_38 (by decide)) (fun _ => ?_)
                      refine lv_iconst (v := 0) hx hb dX3_fit_171 (by decide) ?_
                      refine lv_goto (tgt := 176) hx hb dX3_fit_172 (by decide) ?_
                      refine zx_put hx hb hown hts hK hX hS 0 (by decide) rfl q1021 rfl rfl rfl rfl dX3_fit_176 (fun H locs hX hS => ?_)
                      rw [zu_zu] at hX
                      refine lv_aload_n hx hb dX3_fit_179 rfl (lv_at hl 2 rfl) ?_
                      refine zx_get hx hb hown hts hK hX 0 (by decide) q1021 rfl rfl dX3_fit_180 ?_
                      refine zm_topi (y := 0) (by simp [zu]) ?_
                      refine lv_if_le (tgt := 188) hx hb dX3_fit_183 (by decide) (fun _ => ?_) (fun c_39 => absurd (by decide) c_39)
                      have hmv : ∃ z, nI h = nI z ∧ z < mN (zu X 0 0 0) ∧ mK (zu X 0 0 0) z < mK (zu X 0 0 0) p := ⟨h, rfl, by simpa [mN_w] using hh, by simpa [mK_w] using mPl_lt hI hp hh c_7⟩
                      refine lv_aload_n hx hb dX3_fit_188 rfl (lv_at hl 2 rfl) ?_
                      refine lv_iload_n hx hb dX3_fit_189 rfl (lv_at hl 3 rfl) ?_
                      refine lv_iload_n hx hb dX3_fit_190 rfl (lv_at hl 4 rfl) ?_
                      refine zc_v (zr_V (As := [.int (nI p), .int (nI h)]) (rest := []) ⟨hx, hb, hml, hown, hts⟩ (ct_X3_moves l g A mo ma (zu X 0 0 0) p (nI h) (by have hz_ := show p < mN X from hp; simpa [mN_w, m_moves, m_ends, mN_goes, mN_hl] using hz_) (by first | omega | simpa [mN_w, m_moves, m_ends] using hn60) (by simpa [mM_w, zu, m_moves, m_ends] using hM)) zn_X3_moves (lw_V q1161 q1163 qs20 q48 q1164) rfl (by decide) (by decide) hK (fun _ h => h) hS hX (zx_recv hK hX) rfl hl.1 (Nat.le_of_ble_eq_true rfl) dX3_fit_191 ⟨Nat.le_refl _, Nat.le_refl _⟩) hS (fun _ h => h) (fun _ H locs _ hX _ _ hS => ?_)
                      refine lv_aload_n hx hb dX3_fit_194 rfl (lv_at hl 2 rfl) ?_
                      refine lv_iload_n hx hb dX3_fit_195 rfl (lv_at hl 3 rfl) ?_
                      refine zc_v (zr_V (As := [.int (nI p)]) (rest := []) ⟨hx, hb, hml, hown, hts⟩ (ct_X3_ends l g A mo ma (m_moves (zu X 0 0 0) p (nI h)) p ((hI.w 0 0 0 (by decide) (by decide) (by decide)).moves (q := p) (Or.inr (Or.inr hmv))) (by have hz_ := show p < mN X from hp; simpa [mN_w, m_moves, m_ends, mN_goes, mN_hl] using hz_)) zn_X3_ends (lw_V q1165 q1167 qs21 q48 q1168) rfl (by decide) (by decide) hK (fun _ h => h) hS hX (zx_recv hK hX) rfl hl.1 (Nat.le_of_ble_eq_true rfl) dX3_fit_196 ⟨Nat.le_refl _, Nat.le_refl _⟩) hS (fun _ h => h) (fun _ H locs _ hX _ _ hS => ?_)
                      refine lv_aload_n hx hb dX3_fit_199 rfl (lv_at hl 2 rfl) ?_
                      refine lv_iload_n hx hb dX3_fit_200 rfl (lv_at hl 4 rfl) ?_
                      refine lv_iconst (v := (-1)) hx hb dX3_fit_201 (by decide) ?_
                      refine zc_i (zr_V (As := [.int (nI h), .int (-1)]) (rest := []) ⟨hx, hb, hml, hown, hts⟩ (ct_X3_inside l g A mo ma (m_ends (m_moves (zu X 0 0 0) p (nI h)) p) (nI h) (-1) (((hI.w 0 0 0 (by decide) (by decide) (by decide)).moves (q := p) (Or.inr (Or.inr hmv))).w 11 _ _ (by decide) (by decide) (by decide))) zn_X3_inside (lw_V q1157 q1159 qs19 q48 q1160) rfl (by decide) (by decide) hK (fun _ h => h) hS hX (zx_recv hK hX) rfl hl.1 (Nat.le_of_ble_eq_true rfl) dX3_fit_202 ⟨Nat.le_refl _, Nat.le_refl _⟩) hS (fun _ h => h) (fun r _ H locs r_40 hX _ _ hS => ?_)
                      subst r_40
                      have e1 : (nI (mIn (m_ends (m_moves (zu X 0 0 0) p (nI h)) p) (nI h) (-1)) : Int32) = (m_fit X (nI p) (nI h)).1 := by simp [m_fit, mCan, mHd_w, mIn_w, zu_zu, m_ends, hcp, hch, c_2, c_5, c_7, c_9, c_13, c_17, c_22, c_29, c_32, c_35]
                      have e2 : m_ends (m_moves (zu X 0 0 0) p (nI h)) p = (m_fit X (nI p) (nI h)).2 := by simp [m_fit, mCan, mHd_w, mIn_w, zu_zu, hcp, hch, c_2, c_5, c_7, c_9, c_13, c_17, c_22, c_29, c_32, c_35]
                      rw [e2] at hX
                      exact ze_i hx hb hr hlocks hS dX3_fit_205 (Nat.le_refl _) (Nat.le_refl _) () e1 hX
      · refine lv_iconst (v := 2) hx hb dX3_fit_39 (by decide) ?_
        refine lv_goto (tgt := 44) hx hb dX3_fit_40 (by decide) ?_
        refine zx_put hx hb hown hts hK hX hS 0 (by decide) rfl q1021 rfl rfl rfl rfl dX3_fit_44 (fun H locs hX hS => ?_)
        refine lv_aload_n hx hb dX3_fit_47 rfl (lv_at hl 0 rfl) ?_
        refine zx_get hx hb hown hts hK hX 0 (by decide) q1021 rfl rfl dX3_fit_48 ?_
        refine zm_topi (y := 2) (by simp [zu]) ?_
        refine lv_if_le (tgt := 56) hx hb dX3_fit_51 (by decide) (fun c_41 => absurd c_41 (by decide)) (fun _ => ?_)
        refine lv_iconst (v := 0) hx hb dX3_fit_54 (by decide) ?_
        have e1 : (0 : Int32) = (m_fit X (nI p) (nI h)).1 := by simp [m_fit, mCan, mHd_w, mIn_w, zu_zu, m_ends, hcp, hch, c_2, c_5, c_7]
        have e2 : zu X 0 0 2 = (m_fit X (nI p) (nI h)).2 := by simp [m_fit, mCan, mHd_w, mIn_w, zu_zu, hcp, hch, c_2, c_5, c_7]
        rw [e2] at hX
        exact ze_i hx hb hr hlocks hS dX3_fit_55 (Nat.le_refl _) (Nat.le_refl _) () e1 hX
    · refine lv_iconst (v := 1) hx hb dX3_fit_17 (by decide) ?_
      refine lv_goto (tgt := 44) hx hb dX3_fit_18 (by decide) ?_
      refine zx_put hx hb hown hts hK hX hS 0 (by decide) rfl q1021 rfl rfl rfl rfl dX3_fit_44 (fun H locs hX hS => ?_)
      refine lv_aload_n hx hb dX3_fit_47 rfl (lv_at hl 0 rfl) ?_
      refine zx_get hx hb hown hts hK hX 0 (by decide) q1021 rfl rfl dX3_fit_48 ?_
      refine zm_topi (y := 1) (by simp [zu]) ?_
      refine lv_if_le (tgt := 56) hx hb dX3_fit_51 (by decide) (fun c_42 => absurd c_42 (by decide)) (fun _ => ?_)
      refine lv_iconst (v := 0) hx hb dX3_fit_54 (by decide) ?_
      have e1 : (0 : Int32) = (m_fit X (nI p) y).1 := by simp [m_fit, mCan, mHd_w, mIn_w, zu_zu, m_ends, hcp, c_2, c_5]
      have e2 : zu X 0 0 1 = (m_fit X (nI p) y).2 := by simp [m_fit, mCan, mHd_w, mIn_w, zu_zu, hcp, c_2, c_5]
      rw [e2] at hX
      exact ze_i hx hb hr hlocks hS dX3_fit_55 (Nat.le_refl _) (Nat.le_refl _) () e1 hX
theorem zn_X3_take : zN yX3_take 1 := by decide +kernel
set_option maxHeartbeats 4000000 in
theorem ct_X3_take (l : Launch) (g : zG) (A : Nat → Prop) (mo : Nat) (ma : Nat → Nat) (X : zX) (x : Int32) (hI : MH X) (hz12 : ∀ p, X 12 p = 0 ∨ X 12 p = 1) (hM : X 23 0 = nI (mM X) ∧ mM X < 3000) : Met l yX3_take (ws_ yX3_take cX3_take 3 (some .int)) (zR 3 0 0) (zP [.ref mo, .int x] g A (zMX g A mo ma X)) (va_Qi (fun rz_ (_ : Unit) => rz_ = (m_take X x).1) (fun (_ : Unit) t => zMX g A mo ma ((m_take X x).2) t.heap) A) 0 0 A := by
  refine zb_met (by decide) (Nat.le_of_ble_eq_true rfl) ?_
  intro p e s m args below meth c ls hx hb hr hml hown hts hlocks hnm hK hX ha hl
  have hown : s.vm.findClass RX3 = some m.cls := hown
  have hS : va_S A s.heap s.heap [] := va_S.rf
  have hl : lv_has ls 3 [(0, .ref mo), (1, .int x)] := hl
  have hn60 := hI.1.2
  refine lv_aload_n hx hb dX3_take_0 rfl (lv_at hl 0 rfl) ?_
  refine lv_aload_n hx hb dX3_take_1 rfl (lv_at hl 0 rfl) ?_
  refine lv_iload_n hx hb dX3_take_2 rfl (lv_at hl 1 rfl) ?_
  refine zc_i (zr_V (As := [.int x]) (rest := [.ref mo]) ⟨hx, hb, hml, hown, hts⟩ (ct_X3_isPart l g A mo ma X x) zn_X3_isPart (lw_V q1142 q1144 qs16 q48 q1145) rfl (by decide) (by decide) hK (fun _ h => h) hS hX (zx_recv hK hX) rfl hl.1 (Nat.le_of_ble_eq_true rfl) dX3_take_3 ⟨Nat.le_refl _, Nat.le_refl _⟩) hS (fun _ h => h) (fun r _ H locs r_1 hX _ _ hS => ?_)
  subst r_1
  refine zl_ifne (tgt := 13) hx hb dX3_take_6 (by decide) (fun c_2 => ?_) (fun c_2 => ?_)
  · obtain ⟨p, hp, rfl⟩ := mIs_t hI c_2
    have hcp : (nI p).toNatClampNeg = p := nI_clamp (by omega)
    refine lv_aload_n hx hb dX3_take_13 rfl (lv_at hl 0 rfl) ?_
    refine zx_get hx hb hown hts hK hX 5 (by decide) q1026 rfl rfl dX3_take_14 ?_
    refine lv_iload_n hx hb dX3_take_17 rfl (lv_at hl 1 rfl) ?_
    refine zx_ld (i := p) hx hb hK hX 5 rfl rfl (n := 60) rfl (by omega) dX3_take_18 ?_
    refine lv_if_lt (tgt := 30) hx hb dX3_take_19 (by decide) (fun c_3 => ?_) (fun c_3 => ?_)
    · refine lv_iconst (v := 2) hx hb dX3_take_30 (by decide) ?_
      refine lv_goto (tgt := 35) hx hb dX3_take_31 (by decide) ?_
      refine zx_put hx hb hown hts hK hX hS 0 (by decide) rfl q1021 rfl rfl rfl rfl dX3_take_35 (fun H locs hX hS => ?_)
      refine lv_aload_n hx hb dX3_take_38 rfl (lv_at hl 0 rfl) ?_
      refine zx_get hx hb hown hts hK hX 0 (by decide) q1021 rfl rfl dX3_take_39 ?_
      refine zm_topi (y := 2) (by simp [zu]) ?_
      refine lv_if_le (tgt := 47) hx hb dX3_take_42 (by decide) (fun c_4 => absurd c_4 (by decide)) (fun _ => ?_)
      refine lv_iconst (v := 0) hx hb dX3_take_45 (by decide) ?_
      have e1 : (0 : Int32) = (m_take X (nI p)).1 := by simp [m_take, mHd_w, mIn_w, mWs_w, zu_zu, hcp, c_2, c_3]
      have e2 : zu X 0 0 2 = (m_take X (nI p)).2 := by simp [m_take, mHd_w, mIn_w, mWs_w, zu_zu, hcp, c_2, c_3]
      rw [e2] at hX
      exact ze_i hx hb hr hlocks hS dX3_take_46 (Nat.le_refl _) (Nat.le_refl _) () e1 hX
    · refine lv_aload_n hx hb dX3_take_22 rfl (lv_at hl 0 rfl) ?_
      refine lv_iload_n hx hb dX3_take_23 rfl (lv_at hl 1 rfl) ?_
      refine zc_i (zr_V (As := [.int (nI p)]) (rest := [.ref mo]) ⟨hx, hb, hml, hown, hts⟩ (ct_X3_isBound l g A mo ma X p hI hp hz12) zn_X3_isBound (lw_V q1149 q1151 qs17 q48 q1152) rfl (by decide) (by decide) hK (fun _ h => h) hS hX (zx_recv hK hX) rfl hl.1 (Nat.le_of_ble_eq_true rfl) dX3_take_24 ⟨Nat.le_refl _, Nat.le_refl _⟩) hS (fun _ h => h) (fun r _ H locs r_5 hX _ _ hS => ?_)
      subst r_5
      refine lv_if_eq (tgt := 34) hx hb dX3_take_27 (by decide) (fun c_6 => ?_) (fun c_6 => ?_)
      · refine lv_iconst (v := 0) hx hb dX3_take_34 (by decide) ?_
        refine zx_put hx hb hown hts hK hX hS 0 (by decide) rfl q1021 rfl rfl rfl rfl dX3_take_35 (fun H locs hX hS => ?_)
        refine lv_aload_n hx hb dX3_take_38 rfl (lv_at hl 0 rfl) ?_
        refine zx_get hx hb hown hts hK hX 0 (by decide) q1021 rfl rfl dX3_take_39 ?_
        refine zm_topi (y := 0) (by simp [zu]) ?_
        refine lv_if_le (tgt := 47) hx hb dX3_take_42 (by decide) (fun _ => ?_) (fun c_7 => absurd (by decide) c_7)
        refine lv_aload_n hx hb dX3_take_47 rfl (lv_at hl 0 rfl) ?_
        refine zx_get hx hb hown hts hK hX 5 (by decide) q1026 rfl rfl dX3_take_48 ?_
        refine lv_iload_n hx hb dX3_take_51 rfl (lv_at hl 1 rfl) ?_
        refine zx_ld (i := p) hx hb hK hX 5 rfl rfl (n := 60) rfl (by omega) dX3_take_52 ?_
        refine zm_topi (y := X 5 p) (by simp [zu]) ?_
        refine lv_istore_n (lv' := [(2, .int (X 5 p)), (0, .ref mo), (1, .int (nI p))]) hx hb dX3_take_53 rfl hl (by decide) rfl (fun ls hl => ?_)
        refine lv_aload_n hx hb dX3_take_54 rfl (lv_at hl 1 rfl) ?_
        refine lv_iload_n hx hb dX3_take_55 rfl (lv_at hl 2 rfl) ?_
        refine zc_v (zr_V (As := [.int (nI p)]) (rest := []) ⟨hx, hb, hml, hown, hts⟩ (ct_X3_ends l g A mo ma (zu X 0 0 0) p (hI.w 0 0 0 (by decide) (by decide) (by decide)) (by have hz_ := show p < mN X from hp; simpa [mN_w, m_moves, m_ends, mN_goes, mN_hl] using hz_)) zn_X3_ends (lw_V q1165 q1167 qs21 q48 q1168) rfl (by decide) (by decide) hK (fun _ h => h) hS hX (zx_recv hK hX) rfl hl.1 (Nat.le_of_ble_eq_true rfl) dX3_take_56 ⟨Nat.le_refl _, Nat.le_refl _⟩) hS (fun _ h => h) (fun _ H locs _ hX _ _ hS => ?_)
        refine lv_aload_n hx hb dX3_take_59 rfl (lv_at hl 1 rfl) ?_
        refine lv_iload_n hx hb dX3_take_60 rfl (lv_at hl 2 rfl) ?_
        refine lv_iconst (v := (-1)) hx hb dX3_take_61 (by decide) ?_
        refine zc_v (zr_V (As := [.int (nI p), .int (-1)]) (rest := []) ⟨hx, hb, hml, hown, hts⟩ (ct_X3_moves l g A mo ma (m_ends (zu X 0 0 0) p) p (-1) (by have hz_ := show p < mN X from hp; simpa [mN_w, m_moves, m_ends, mN_goes, mN_hl] using hz_) (by first | omega | simpa [mN_w, m_moves, m_ends] using hn60) (by simpa [mM_w, zu, m_moves, m_ends] using hM)) zn_X3_moves (lw_V q1161 q1163 qs20 q48 q1164) rfl (by decide) (by decide) hK (fun _ h => h) hS hX (zx_recv hK hX) rfl hl.1 (Nat.le_of_ble_eq_true rfl) dX3_take_62 ⟨Nat.le_refl _, Nat.le_refl _⟩) hS (fun _ h => h) (fun _ H locs _ hX _ _ hS => ?_)
        refine lv_iload_n hx hb dX3_take_65 rfl (lv_at hl 0 rfl) ?_
        have e1 : (X 5 p : Int32) = (m_take X (nI p)).1 := by simp [m_take, mHd_w, mIn_w, mWs_w, zu_zu, hcp, c_2, c_3, c_6]
        have e2 : m_moves (m_ends (zu X 0 0 0) p) p (-1) = (m_take X (nI p)).2 := by simp [m_take, mHd_w, mIn_w, mWs_w, zu_zu, hcp, c_2, c_3, c_6]
        rw [e2] at hX
        exact ze_i hx hb hr hlocks hS dX3_take_66 (Nat.le_refl _) (Nat.le_refl _) () e1 hX
      · refine lv_iconst (v := 2) hx hb dX3_take_30 (by decide) ?_
        refine lv_goto (tgt := 35) hx hb dX3_take_31 (by decide) ?_
        refine zx_put hx hb hown hts hK hX hS 0 (by decide) rfl q1021 rfl rfl rfl rfl dX3_take_35 (fun H locs hX hS => ?_)
        refine lv_aload_n hx hb dX3_take_38 rfl (lv_at hl 0 rfl) ?_
        refine zx_get hx hb hown hts hK hX 0 (by decide) q1021 rfl rfl dX3_take_39 ?_
        refine zm_topi (y := 2) (by simp [zu]) ?_
        refine lv_if_le (tgt := 47) hx hb dX3_take_42 (by decide) (fun c_8 => absurd c_8 (by decide)) (fun _ => ?_)
        refine lv_iconst (v := 0) hx hb dX3_take_45 (by decide) ?_
        have e1 : (0 : Int32) = (m_take X (nI p)).1 := by simp [m_take, mHd_w, mIn_w, mWs_w, zu_zu, hcp, c_2, c_3, c_6]
        have e2 : zu X 0 0 2 = (m_take X (nI p)).2 := by simp [m_take, mHd_w, mIn_w, mWs_w, zu_zu, hcp, c_2, c_3, c_6]
        rw [e2] at hX
        exact ze_i hx hb hr hlocks hS dX3_take_46 (Nat.le_refl _) (Nat.le_refl _) () e1 hX
  · refine lv_iconst (v := 1) hx hb dX3_take_9 (by decide) ?_
    refine lv_goto (tgt := 35) hx hb dX3_take_10 (by decide) ?_
    refine zx_put hx hb hown hts hK hX hS 0 (by decide) rfl q1021 rfl rfl rfl rfl dX3_take_35 (fun H locs hX hS => ?_)
    refine lv_aload_n hx hb dX3_take_38 rfl (lv_at hl 0 rfl) ?_
    refine zx_get hx hb hown hts hK hX 0 (by decide) q1021 rfl rfl dX3_take_39 ?_
    refine zm_topi (y := 1) (by simp [zu]) ?_
    refine lv_if_le (tgt := 47) hx hb dX3_take_42 (by decide) (fun c_9 => absurd c_9 (by decide)) (fun _ => ?_)
    refine lv_iconst (v := 0) hx hb dX3_take_45 (by decide) ?_
    have e1 : (0 : Int32) = (m_take X x).1 := by simp [m_take, mHd_w, mIn_w, mWs_w, zu_zu, c_2]
    have e2 : zu X 0 0 1 = (m_take X x).2 := by simp [m_take, mHd_w, mIn_w, mWs_w, zu_zu, c_2]
    rw [e2] at hX
    exact ze_i hx hb hr hlocks hS dX3_take_46 (Nat.le_refl _) (Nat.le_refl _) () e1 hX
theorem zn_X3_scrap : zN yX3_scrap 1 := by decide +kernel
set_option maxHeartbeats 4000000 in
theorem ct_X3_scrap (l : Launch) (g : zG) (A : Nat → Prop) (mo : Nat) (ma : Nat → Nat) (X : zX) (x : Int32) (hI : MH X) (hz12 : ∀ p, X 12 p = 0 ∨ X 12 p = 1) (hM : X 23 0 = nI (mM X) ∧ mM X < 3000) (hW : X 26 0 = nI (mW X) ∧ mW X ≤ 8) : Met l yX3_scrap (ws_ yX3_scrap cX3_scrap 2 none) (zR 3 0 0) (zP [.ref mo, .int x] g A (zMX g A mo ma X)) (va_Qv (fun (_ : Unit) => True) (fun (_ : Unit) t => zMX g A mo ma (m_scrap X x) t.heap) A) 0 0 A := by
  refine zb_met (by decide) (Nat.le_of_ble_eq_true rfl) ?_
  intro p e s m args below meth c ls hx hb hr hml hown hts hlocks hnm hK hX ha hl
  have hown : s.vm.findClass RX3 = some m.cls := hown
  have hS : va_S A s.heap s.heap [] := va_S.rf
  have hl : lv_has ls 2 [(0, .ref mo), (1, .int x)] := hl
  have hn60 := hI.1.2
  refine lv_aload_n hx hb dX3_scrap_0 rfl (lv_at hl 0 rfl) ?_
  refine lv_aload_n hx hb dX3_scrap_1 rfl (lv_at hl 0 rfl) ?_
  refine lv_iload_n hx hb dX3_scrap_2 rfl (lv_at hl 1 rfl) ?_
  refine zc_i (zr_V (As := [.int x]) (rest := [.ref mo]) ⟨hx, hb, hml, hown, hts⟩ (ct_X3_isPart l g A mo ma X x) zn_X3_isPart (lw_V q1142 q1144 qs16 q48 q1145) rfl (by decide) (by decide) hK (fun _ h => h) hS hX (zx_recv hK hX) rfl hl.1 (Nat.le_of_ble_eq_true rfl) dX3_scrap_3 ⟨Nat.le_refl _, Nat.le_refl _⟩) hS (fun _ h => h) (fun r _ H locs r_1 hX _ _ hS => ?_)
  subst r_1
  refine zl_ifne (tgt := 13) hx hb dX3_scrap_6 (by decide) (fun c_2 => ?_) (fun c_2 => ?_)
  · obtain ⟨p, hp, rfl⟩ := mIs_t hI c_2
    have hcp : (nI p).toNatClampNeg = p := nI_clamp (by omega)
    refine lv_aload_n hx hb dX3_scrap_13 rfl (lv_at hl 0 rfl) ?_
    refine zx_get hx hb hown hts hK hX 5 (by decide) q1026 rfl rfl dX3_scrap_14 ?_
    refine lv_iload_n hx hb dX3_scrap_17 rfl (lv_at hl 1 rfl) ?_
    refine zx_ld (i := p) hx hb hK hX 5 rfl rfl (n := 60) rfl (by omega) dX3_scrap_18 ?_
    refine lv_iconst (v := (-1)) hx hb dX3_scrap_19 (by decide) ?_
    refine lv_icmp_ne (tgt := 48) hx hb dX3_scrap_20 (by decide) (fun c_3 => ?_) (fun c_3 => ?_)
    · refine lv_iconst (v := 2) hx hb dX3_scrap_48 (by decide) ?_
      refine lv_goto (tgt := 53) hx hb dX3_scrap_49 (by decide) ?_
      refine zx_put hx hb hown hts hK hX hS 0 (by decide) rfl q1021 rfl rfl rfl rfl dX3_scrap_53 (fun H locs hX hS => ?_)
      refine lv_aload_n hx hb dX3_scrap_56 rfl (lv_at hl 0 rfl) ?_
      refine zx_get hx hb hown hts hK hX 0 (by decide) q1021 rfl rfl dX3_scrap_57 ?_
      refine zm_topi (y := 2) (by simp [zu]) ?_
      refine lv_if_ne (tgt := 70) hx hb dX3_scrap_60 (by decide) (fun _ => ?_) (fun c_4 => absurd c_4 (by decide))
      have e2 : zu X 0 0 2 = m_scrap X (nI p) := by simp [m_scrap, mHd_w, mIn_w, mWs_w, zu_zu, hcp, c_2, c_3]
      rw [e2] at hX
      exact ze_v hx hb hr hlocks hS dX3_scrap_70 (Nat.le_refl _) (Nat.le_refl _) () trivial hX
    · refine lv_aload_n hx hb dX3_scrap_23 rfl (lv_at hl 0 rfl) ?_
      refine lv_iload_n hx hb dX3_scrap_24 rfl (lv_at hl 1 rfl) ?_
      refine lv_iconst (v := (-1)) hx hb dX3_scrap_25 (by decide) ?_
      refine zc_i (zr_V (As := [.int (nI p), .int (-1)]) (rest := [.ref mo]) ⟨hx, hb, hml, hown, hts⟩ (ct_X3_inside l g A mo ma X (nI p) (-1) hI) zn_X3_inside (lw_V q1157 q1159 qs19 q48 q1160) rfl (by decide) (by decide) hK (fun _ h => h) hS hX (zx_recv hK hX) rfl hl.1 (Nat.le_of_ble_eq_true rfl) dX3_scrap_26 ⟨Nat.le_refl _, Nat.le_refl _⟩) hS (fun _ h => h) (fun r _ H locs r_5 hX _ _ hS => ?_)
      subst r_5
      refine lv_if_gt (tgt := 48) hx hb dX3_scrap_29 (by decide) (fun c_6 => ?_) (fun c_6 => ?_)
      · refine lv_iconst (v := 2) hx hb dX3_scrap_48 (by decide) ?_
        refine lv_goto (tgt := 53) hx hb dX3_scrap_49 (by decide) ?_
        refine zx_put hx hb hown hts hK hX hS 0 (by decide) rfl q1021 rfl rfl rfl rfl dX3_scrap_53 (fun H locs hX hS => ?_)
        refine lv_aload_n hx hb dX3_scrap_56 rfl (lv_at hl 0 rfl) ?_
        refine zx_get hx hb hown hts hK hX 0 (by decide) q1021 rfl rfl dX3_scrap_57 ?_
        refine zm_topi (y := 2) (by simp [zu]) ?_
        refine lv_if_ne (tgt := 70) hx hb dX3_scrap_60 (by decide) (fun _ => ?_) (fun c_7 => absurd c_7 (by decide))
        have e2 : zu X 0 0 2 = m_scrap X (nI p) := by simp [m_scrap, mHd_w, mIn_w, mWs_w, zu_zu, hcp, c_2, c_3, c_6]
        rw [e2] at hX
        exact ze_v hx hb hr hlocks hS dX3_scrap_70 (Nat.le_refl _) (Nat.le_refl _) () trivial hX
      · refine lv_aload_n hx hb dX3_scrap_32 rfl (lv_at hl 0 rfl) ?_
        refine lv_iload_n hx hb dX3_scrap_33 rfl (lv_at hl 1 rfl) ?_
        refine zc_i (zr_V (As := [.int (nI p)]) (rest := [.ref mo]) ⟨hx, hb, hml, hown, hts⟩ (ct_X3_isBound l g A mo ma X p hI hp hz12) zn_X3_isBound (lw_V q1149 q1151 qs17 q48 q1152) rfl (by decide) (by decide) hK (fun _ h => h) hS hX (zx_recv hK hX) rfl hl.1 (Nat.le_of_ble_eq_true rfl) dX3_scrap_34 ⟨Nat.le_refl _, Nat.le_refl _⟩) hS (fun _ h => h) (fun r _ H locs r_8 hX _ _ hS => ?_)
        subst r_8
        refine lv_if_ne (tgt := 48) hx hb dX3_scrap_37 (by decide) (fun c_9 => ?_) (fun c_9 => ?_)
        · refine lv_iconst (v := 2) hx hb dX3_scrap_48 (by decide) ?_
          refine lv_goto (tgt := 53) hx hb dX3_scrap_49 (by decide) ?_
          refine zx_put hx hb hown hts hK hX hS 0 (by decide) rfl q1021 rfl rfl rfl rfl dX3_scrap_53 (fun H locs hX hS => ?_)
          refine lv_aload_n hx hb dX3_scrap_56 rfl (lv_at hl 0 rfl) ?_
          refine zx_get hx hb hown hts hK hX 0 (by decide) q1021 rfl rfl dX3_scrap_57 ?_
          refine zm_topi (y := 2) (by simp [zu]) ?_
          refine lv_if_ne (tgt := 70) hx hb dX3_scrap_60 (by decide) (fun _ => ?_) (fun c_10 => absurd c_10 (by decide))
          have e2 : zu X 0 0 2 = m_scrap X (nI p) := by simp [m_scrap, mHd_w, mIn_w, mWs_w, zu_zu, hcp, c_2, c_3, c_6, c_9]
          rw [e2] at hX
          exact ze_v hx hb hr hlocks hS dX3_scrap_70 (Nat.le_refl _) (Nat.le_refl _) () trivial hX
        · refine lv_aload_n hx hb dX3_scrap_40 rfl (lv_at hl 0 rfl) ?_
          refine lv_iload_n hx hb dX3_scrap_41 rfl (lv_at hl 1 rfl) ?_
          refine zc_i (zr_V (As := [.int (nI p)]) (rest := [.ref mo]) ⟨hx, hb, hml, hown, hts⟩ (ct_X3_waits l g A mo ma X (nI p) hW) zn_X3_waits (lw_V q1177 q1179 qs22 q48 q1180) rfl (by decide) (by decide) hK (fun _ h => h) hS hX (zx_recv hK hX) rfl hl.1 (Nat.le_of_ble_eq_true rfl) dX3_scrap_42 ⟨Nat.le_refl _, Nat.le_refl _⟩) hS (fun _ h => h) (fun r _ H locs r_11 hX _ _ hS => ?_)
          subst r_11
          refine zl_ifeq (tgt := 52) hx hb dX3_scrap_45 (by decide) (fun c_12 => ?_) (fun c_12 => ?_)
          · refine lv_iconst (v := 0) hx hb dX3_scrap_52 (by decide) ?_
            refine zx_put hx hb hown hts hK hX hS 0 (by decide) rfl q1021 rfl rfl rfl rfl dX3_scrap_53 (fun H locs hX hS => ?_)
            refine lv_aload_n hx hb dX3_scrap_56 rfl (lv_at hl 0 rfl) ?_
            refine zx_get hx hb hown hts hK hX 0 (by decide) q1021 rfl rfl dX3_scrap_57 ?_
            refine zm_topi (y := 0) (by simp [zu]) ?_
            refine lv_if_ne (tgt := 70) hx hb dX3_scrap_60 (by decide) (fun c_13 => absurd (by decide) c_13) (fun _ => ?_)
            refine lv_aload_n hx hb dX3_scrap_63 rfl (lv_at hl 0 rfl) ?_
            refine lv_iload_n hx hb dX3_scrap_64 rfl (lv_at hl 1 rfl) ?_
            refine lv_bipush (v := (-2)) hx hb dX3_scrap_65 (by decide) ?_
            refine zc_v (zr_V (As := [.int (nI p), .int (-2)]) (rest := []) ⟨hx, hb, hml, hown, hts⟩ (ct_X3_moves l g A mo ma (zu X 0 0 0) p (-2) (by have hz_ := show p < mN X from hp; simpa [mN_w, m_moves, m_ends, mN_goes, mN_hl] using hz_) (by first | omega | simpa [mN_w, m_moves, m_ends] using hn60) (by simpa [mM_w, zu, m_moves, m_ends] using hM)) zn_X3_moves (lw_V q1161 q1163 qs20 q48 q1164) rfl (by decide) (by decide) hK (fun _ h => h) hS hX (zx_recv hK hX) rfl hl.1 (Nat.le_of_ble_eq_true rfl) dX3_scrap_67 ⟨Nat.le_refl _, Nat.le_refl _⟩) hS (fun _ h => h) (fun _ H locs _ hX _ _ hS => ?_)
            have e2 : m_moves (zu X 0 0 0) p (-2) = m_scrap X (nI p) := by simp [m_scrap, mHd_w, mIn_w, mWs_w, zu_zu, hcp, c_2, c_3, c_6, c_9, c_12]
            rw [e2] at hX
            exact ze_v hx hb hr hlocks hS dX3_scrap_70 (Nat.le_refl _) (Nat.le_refl _) () trivial hX
          · refine lv_iconst (v := 2) hx hb dX3_scrap_48 (by decide) ?_
            refine lv_goto (tgt := 53) hx hb dX3_scrap_49 (by decide) ?_
            refine zx_put hx hb hown hts hK hX hS 0 (by decide) rfl q1021 rfl rfl rfl rfl dX3_scrap_53 (fun H locs hX hS => ?_)
            refine lv_aload_n hx hb dX3_scrap_56 rfl (lv_at hl 0 rfl) ?_
            refine zx_get hx hb hown hts hK hX 0 (by decide) q1021 rfl rfl dX3_scrap_57 ?_
            refine zm_topi (y := 2) (by simp [zu]) ?_
            refine lv_if_ne (tgt := 70) hx hb dX3_scrap_60 (by decide) (fun _ => ?_) (fun c_14 => absurd c_14 (by decide))
            have e2 : zu X 0 0 2 = m_scrap X (nI p) := by simp [m_scrap, mHd_w, mIn_w, mWs_w, zu_zu, hcp, c_2, c_3, c_6, c_9, c_12]
            rw [e2] at hX
            exact ze_v hx hb hr hlocks hS dX3_scrap_70 (Nat.le_refl _) (Nat.le_refl _) () trivial hX
  · refine lv_iconst (v := 1) hx hb dX3_scrap_9 (by decide) ?_
    refine lv_goto (tgt := 53) hx hb dX3_scrap_10 (by decide) ?_
    refine zx_put hx hb hown hts hK hX hS 0 (by decide) rfl q1021 rfl rfl rfl rfl dX3_scrap_53 (fun H locs hX hS => ?_)
    refine lv_aload_n hx hb dX3_scrap_56 rfl (lv_at hl 0 rfl) ?_
    refine zx_get hx hb hown hts hK hX 0 (by decide) q1021 rfl rfl dX3_scrap_57 ?_
    refine zm_topi (y := 1) (by simp [zu]) ?_
    refine lv_if_ne (tgt := 70) hx hb dX3_scrap_60 (by decide) (fun _ => ?_) (fun c_15 => absurd c_15 (by decide))
    have e2 : zu X 0 0 1 = m_scrap X x := by simp [m_scrap, mHd_w, mIn_w, mWs_w, zu_zu, c_2]
    rw [e2] at hX
    exact ze_v hx hb hr hlocks hS dX3_scrap_70 (Nat.le_refl _) (Nat.le_refl _) () trivial hX
theorem zn_X3_goes : zN yX3_goes 3 := by decide +kernel
set_option maxHeartbeats 4000000 in
theorem ct_X3_goes (l : Launch) (g : zG) (A : Nat → Prop) (mo : Nat) (ma : Nat → Nat) (X : zX) (q : Nat) (km : Int32) (se : Int32) (hI : MH X) (hq : q < mN X) : Met l yX3_goes (ws_ yX3_goes cX3_goes 7 none) (zR 2 0 0) (zP [.ref mo, .int (nI q), .int km, .int se] g A (zMX g A mo ma X)) (va_Qv (fun (_ : Unit) => True) (fun (_ : Unit) t => zMX g A mo ma (m_goes X q km se) t.heap) A) 0 0 A := by
  refine zb_met (by decide) (Nat.le_of_ble_eq_true rfl) ?_
  intro p e s m args below meth c ls hx hb hr hml hown hts hlocks hnm hK hX ha hl
  have hown : s.vm.findClass RX3 = some m.cls := hown
  have hS : va_S A s.heap s.heap [] := va_S.rf
  have hl : lv_has ls 7 [(0, .ref mo), (1, .int (nI q)), (2, .int km), (3, .int se)] := hl
  have hn60 := hI.1.2
  refine lv_aload_n hx hb dX3_goes_0 rfl (lv_at hl 0 rfl) ?_
  refine zx_get hx hb hown hts hK hX 6 (by decide) q1027 rfl rfl dX3_goes_1 ?_
  refine lv_iload_n hx hb dX3_goes_4 rfl (lv_at hl 1 rfl) ?_
  refine zx_ld (i := q) hx hb hK hX 6 rfl rfl (n := 60) rfl (by omega) dX3_goes_5 ?_
  refine lv_istore (lv' := [(4, .int (X 6 q)), (0, .ref mo), (1, .int (nI q)), (2, .int km), (3, .int se)]) hx hb dX3_goes_6 hl (by decide) rfl (fun ls hl => ?_)
  refine lv_aload_n hx hb dX3_goes_8 rfl (lv_at hl 1 rfl) ?_
  refine zx_get hx hb hown hts hK hX 6 (by decide) q1027 rfl rfl dX3_goes_9 ?_
  refine lv_iload_n hx hb dX3_goes_12 rfl (lv_at hl 2 rfl) ?_
  refine lv_dup2_11 hx hb dX3_goes_13 rfl rfl ?_
  refine zx_ld (i := q) hx hb hK hX 6 rfl rfl (n := 60) rfl (by omega) dX3_goes_14 ?_
  refine lv_iload_n hx hb dX3_goes_15 rfl (lv_at hl 3 rfl) ?_
  refine lv_iadd hx hb dX3_goes_16 ?_
  refine zx_st (i := q) hx hb hK hX hS 6 rfl rfl (n := 60) rfl (by omega) dX3_goes_17 (fun H locs hX hS => ?_)
  refine lv_aload_n hx hb dX3_goes_18 rfl (lv_at hl 1 rfl) ?_
  refine zx_get hx hb hown hts hK hX 7 (by decide) q1028 rfl rfl dX3_goes_19 ?_
  refine lv_iload_n hx hb dX3_goes_22 rfl (lv_at hl 2 rfl) ?_
  refine lv_dup2_11 hx hb dX3_goes_23 rfl rfl ?_
  refine zx_ld (i := q) hx hb hK hX 7 rfl rfl (n := 60) rfl (by omega) dX3_goes_24 ?_
  refine zm_topi (y := X 7 q) (by simp [zu]) ?_
  refine lv_iload_n hx hb dX3_goes_25 rfl (lv_at hl 3 rfl) ?_
  refine lv_iadd hx hb dX3_goes_26 ?_
  refine zx_st (i := q) hx hb hK hX hS 7 rfl rfl (n := 60) rfl (by omega) dX3_goes_27 (fun H locs hX hS => ?_)
  refine lv_aload_n hx hb dX3_goes_28 rfl (lv_at hl 1 rfl) ?_
  refine zx_get hx hb hown hts hK hX 2 (by decide) q1023 rfl rfl dX3_goes_29 ?_
  refine lv_iload_n hx hb dX3_goes_32 rfl (lv_at hl 2 rfl) ?_
  refine zx_ld (i := q) hx hb hK hX 2 rfl rfl (n := 60) rfl (by omega) dX3_goes_33 ?_
  refine zm_topi (y := X 2 q) (by simp [zu]) ?_
  refine lv_iconst (v := 3) hx hb dX3_goes_34 (by decide) ?_
  refine lv_icmp_ne (tgt := 111) hx hb dX3_goes_35 (by decide) (fun c_1 => ?_) (fun c_1 => ?_)
  · have e0 : zu (zu X 6 q ((X 6 q) + km)) 7 q ((X 7 q) + km) = mGo2 X q km se := by simp [mGo2, mGo1, c_1]
    rw [e0] at hX
    refine lv_aload_n hx hb dX3_goes_111 rfl (lv_at hl 1 rfl) ?_
    refine zx_get hx hb hown hts hK hX 18 (by decide) q1039 rfl rfl dX3_goes_112 ?_
    refine lv_iload_n hx hb dX3_goes_115 rfl (lv_at hl 2 rfl) ?_
    refine zx_ld (i := q) hx hb hK hX 18 rfl rfl (n := 60) rfl (by omega) dX3_goes_116 ?_
    refine zm_topi (y := X 18 q) (congrFun (mGo2_cg _ _ _ _ (by decide) (by decide) (by decide) (by decide) (by decide)) q) ?_
    refine lv_if_ne (tgt := 124) hx hb dX3_goes_117 (by decide) (fun c_2 => ?_) (fun c_2 => ?_)
    · refine lv_aload_n hx hb dX3_goes_124 rfl (lv_at hl 1 rfl) ?_
      refine zx_get hx hb hown hts hK hX 6 (by decide) q1027 rfl rfl dX3_goes_125 ?_
      refine lv_iload_n hx hb dX3_goes_128 rfl (lv_at hl 2 rfl) ?_
      refine zx_ld (i := q) hx hb hK hX 6 rfl rfl (n := 60) rfl (by omega) dX3_goes_129 ?_
      refine zm_topi (y := X 6 q + km) (mGo2_6 _ _ _ _) ?_
      refine lv_aload_n hx hb dX3_goes_130 rfl (lv_at hl 1 rfl) ?_
      refine zx_get hx hb hown hts hK hX 19 (by decide) q1040 rfl rfl dX3_goes_131 ?_
      refine lv_iload_n hx hb dX3_goes_134 rfl (lv_at hl 2 rfl) ?_
      refine zx_ld (i := q) hx hb hK hX 19 rfl rfl (n := 60) rfl (by omega) dX3_goes_135 ?_
      refine zm_topi (y := X 19 q) (congrFun (mGo2_cg _ _ _ _ (by decide) (by decide) (by decide) (by decide) (by decide)) q) ?_
      refine lv_isub hx hb dX3_goes_136 ?_
      refine lv_sipush (v := 500) hx hb dX3_goes_137 (by decide) ?_
      refine lv_idiv hx hb dX3_goes_140 (by decide) ?_
      refine lv_iload hx hb dX3_goes_141 (lv_at hl 0 rfl) ?_
      refine lv_aload_n hx hb dX3_goes_143 rfl (lv_at hl 1 rfl) ?_
      refine zx_get hx hb hown hts hK hX 19 (by decide) q1040 rfl rfl dX3_goes_144 ?_
      refine lv_iload_n hx hb dX3_goes_147 rfl (lv_at hl 2 rfl) ?_
      refine zx_ld (i := q) hx hb hK hX 19 rfl rfl (n := 60) rfl (by omega) dX3_goes_148 ?_
      refine zm_topi (y := X 19 q) (congrFun (mGo2_cg _ _ _ _ (by decide) (by decide) (by decide) (by decide) (by decide)) q) ?_
      refine lv_isub hx hb dX3_goes_149 ?_
      refine lv_sipush (v := 500) hx hb dX3_goes_150 (by decide) ?_
      refine lv_idiv hx hb dX3_goes_153 (by decide) ?_
      refine lv_isub hx hb dX3_goes_154 ?_
      refine zm_topi (y := mSt X q km) (by simp [mSt, c_2]) ?_
      refine lv_istore (lv' := [(5, .int (mSt X q km)), (4, .int (X 6 q)), (0, .ref mo), (1, .int (nI q)), (2, .int km), (3, .int se)]) hx hb dX3_goes_155 hl (by decide) rfl (fun ls hl => ?_)
      have hX : zMX g A mo ma (zu (mGo2 X q km se) 18 q (zgr (X 18 q) 0)) H := by rw [show zgr (X 18 q) 0 = mGo2 X q km se 18 q from (congrFun (mGo2_cg _ _ _ _ (by decide) (by decide) (by decide) (by decide) (by decide)) q).symm, zu_r _ _ _ _ rfl]; exact hX
      refine lv_iconst (v := 0) hx hb dX3_goes_157 (by decide) ?_
      refine lv_istore (lv' := [(6, .int 0), (5, .int (mSt X q km)), (4, .int (X 6 q)), (0, .ref mo), (1, .int (nI q)), (2, .int km), (3, .int se)]) hx hb dX3_goes_158 hl (by decide) rfl (fun ls hl => ?_)
      have L_4 : ∀ (n_3 : Nat) (j : Nat), (mSt X q km).toNatClampNeg + 1 - j < n_3 → (j ≤ (mSt X q km).toNatClampNeg) → ∀ (H : Heap) (locs : List Loc) (ls : Array Slot), zMX g A mo ma (zu (mGo2 X q km se) 18 q (zgr (X 18 q) j)) H → va_S A s.heap H locs → lv_has ls 7 [(6, .int (nI j)), (5, .int (mSt X q km)), (4, .int (X 6 q)), (0, .ref mo), (1, .int (nI q)), (2, .int km), (3, .int se)] → W p l e (zR 2 0 0) s m args below meth c H locs 0 0 (MQ below (va_Qv (fun (_ : Unit) => True) (fun (_ : Unit) t => zMX g A mo ma (m_goes X q km se) t.heap) A) args s 0 0 A) (F0 m 160 ls []) := by
        intro n_3
        induction n_3 with
        | zero => intro j hm; exact absurd hm (Nat.not_lt_zero _)
        | succ n_3 ih =>
          intro j hm hj H locs ls hX hS hl
          have ih_5 := ih
          have hcl := zcl (mSt X q km)
          refine lv_iload hx hb dX3_goes_160 (lv_at hl 0 rfl) ?_
          refine lv_iload hx hb dX3_goes_162 (lv_at hl 1 rfl) ?_
          refine lv_icmp_ge (tgt := 193) hx hb dX3_goes_164 (by decide) (fun c_6 => ?_) (fun c_6 => ?_)
          · have e2 : zu (mGo2 X q km se) 18 q (zgr (X 18 q) j) = m_goes X q km se := by have q2 := zge_t hj c_6; subst q2; rfl
            rw [e2] at hX
            exact ze_v hx hb hr hlocks hS dX3_goes_193 (Nat.le_refl _) (Nat.le_refl _) () trivial hX
          · have hlt := zge_f (by omega) c_6
            refine lv_aload_n hx hb dX3_goes_167 rfl (lv_at hl 3 rfl) ?_
            refine zx_get hx hb hown hts hK hX 18 (by decide) q1039 rfl rfl dX3_goes_168 ?_
            refine lv_iload_n hx hb dX3_goes_171 rfl (lv_at hl 4 rfl) ?_
            refine lv_dup2_11 hx hb dX3_goes_172 rfl rfl ?_
            refine zx_ld (i := q) hx hb hK hX 18 rfl rfl (n := 60) rfl (by omega) dX3_goes_173 ?_
            refine zm_topi (y := zgr (X 18 q) j) (zu_s _ _ _ _) ?_
            refine lv_iconst (v := 1) hx hb dX3_goes_174 (by decide) ?_
            refine lv_aload_n hx hb dX3_goes_175 rfl (lv_at hl 3 rfl) ?_
            refine zx_get hx hb hown hts hK hX 18 (by decide) q1039 rfl rfl dX3_goes_176 ?_
            refine lv_iload_n hx hb dX3_goes_179 rfl (lv_at hl 4 rfl) ?_
            refine zx_ld (i := q) hx hb hK hX 18 rfl rfl (n := 60) rfl (by omega) dX3_goes_180 ?_
            refine zm_topi (y := zgr (X 18 q) j) (zu_s _ _ _ _) ?_
            refine lv_bipush (v := 10) hx hb dX3_goes_181 (by decide) ?_
            refine lv_idiv hx hb dX3_goes_183 (by decide) ?_
            refine lv_iadd hx hb dX3_goes_184 ?_
            refine lv_iadd hx hb dX3_goes_185 ?_
            refine zx_st (i := q) hx hb hK hX hS 18 rfl rfl (n := 60) rfl (by omega) dX3_goes_186 (fun H locs hX hS => ?_)
            have hX : zMX g A mo ma (zu (mGo2 X q km se) 18 q (zgr (X 18 q) (j + 1))) H := by rw [zu_zu] at hX; exact hX
            refine lv_iinc (v := nI (j + 1)) (lv' := [(6, .int (nI (j + 1))), (5, .int (mSt X q km)), (4, .int (X 6 q)), (0, .ref mo), (1, .int (nI q)), (2, .int km), (3, .int se)]) hx hb dX3_goes_187 hl (k := 0) rfl (nI_1 j) (by decide) rfl (fun ls hl => ?_)
            refine lv_goto (tgt := 160) hx hb dX3_goes_190 (by decide) ?_
            exact ih_5 (j + 1) (by omega) (by omega) _ _ _ hX hS (lv_sub hl [0, 1, 2, 3, 4, 5, 6] rfl)
      exact L_4 (((mSt X q km).toNatClampNeg + 1 - 0) + 1) 0 (Nat.lt_succ_self _) (by omega) _ _ _ hX hS (lv_sub hl [0, 1, 2, 3, 4, 5, 6] rfl)
    · refine lv_iconst (v := 0) hx hb dX3_goes_120 (by decide) ?_
      refine lv_goto (tgt := 155) hx hb dX3_goes_121 (by decide) ?_
      refine zm_topi (y := mSt X q km) (by simp [mSt, c_2]) ?_
      refine lv_istore (lv' := [(5, .int (mSt X q km)), (4, .int (X 6 q)), (0, .ref mo), (1, .int (nI q)), (2, .int km), (3, .int se)]) hx hb dX3_goes_155 hl (by decide) rfl (fun ls hl => ?_)
      have hX : zMX g A mo ma (zu (mGo2 X q km se) 18 q (zgr (X 18 q) 0)) H := by rw [show zgr (X 18 q) 0 = mGo2 X q km se 18 q from (congrFun (mGo2_cg _ _ _ _ (by decide) (by decide) (by decide) (by decide) (by decide)) q).symm, zu_r _ _ _ _ rfl]; exact hX
      refine lv_iconst (v := 0) hx hb dX3_goes_157 (by decide) ?_
      refine lv_istore (lv' := [(6, .int 0), (5, .int (mSt X q km)), (4, .int (X 6 q)), (0, .ref mo), (1, .int (nI q)), (2, .int km), (3, .int se)]) hx hb dX3_goes_158 hl (by decide) rfl (fun ls hl => ?_)
      have L_8 : ∀ (n_7 : Nat) (j : Nat), (mSt X q km).toNatClampNeg + 1 - j < n_7 → (j ≤ (mSt X q km).toNatClampNeg) → ∀ (H : Heap) (locs : List Loc) (ls : Array Slot), zMX g A mo ma (zu (mGo2 X q km se) 18 q (zgr (X 18 q) j)) H → va_S A s.heap H locs → lv_has ls 7 [(6, .int (nI j)), (5, .int (mSt X q km)), (4, .int (X 6 q)), (0, .ref mo), (1, .int (nI q)), (2, .int km), (3, .int se)] → W p l e (zR 2 0 0) s m args below meth c H locs 0 0 (MQ below (va_Qv (fun (_ : Unit) => True) (fun (_ : Unit) t => zMX g A mo ma (m_goes X q km se) t.heap) A) args s 0 0 A) (F0 m 160 ls []) := by
        intro n_7
        induction n_7 with
        | zero => intro j hm; exact absurd hm (Nat.not_lt_zero _)
        | succ n_7 ih =>
          intro j hm hj H locs ls hX hS hl
          have ih_9 := ih
          have hcl := zcl (mSt X q km)
          refine lv_iload hx hb dX3_goes_160 (lv_at hl 0 rfl) ?_
          refine lv_iload hx hb dX3_goes_162 (lv_at hl 1 rfl) ?_
          refine lv_icmp_ge (tgt := 193) hx hb dX3_goes_164 (by decide) (fun c_10 => ?_) (fun c_10 => ?_)
          · have e2 : zu (mGo2 X q km se) 18 q (zgr (X 18 q) j) = m_goes X q km se := by have q2 := zge_t hj c_10; subst q2; rfl
            rw [e2] at hX
            exact ze_v hx hb hr hlocks hS dX3_goes_193 (Nat.le_refl _) (Nat.le_refl _) () trivial hX
          · have hlt := zge_f (by omega) c_10
            refine lv_aload_n hx hb dX3_goes_167 rfl (lv_at hl 3 rfl) ?_
            refine zx_get hx hb hown hts hK hX 18 (by decide) q1039 rfl rfl dX3_goes_168 ?_
            refine lv_iload_n hx hb dX3_goes_171 rfl (lv_at hl 4 rfl) ?_
            refine lv_dup2_11 hx hb dX3_goes_172 rfl rfl ?_
            refine zx_ld (i := q) hx hb hK hX 18 rfl rfl (n := 60) rfl (by omega) dX3_goes_173 ?_
            refine zm_topi (y := zgr (X 18 q) j) (zu_s _ _ _ _) ?_
            refine lv_iconst (v := 1) hx hb dX3_goes_174 (by decide) ?_
            refine lv_aload_n hx hb dX3_goes_175 rfl (lv_at hl 3 rfl) ?_
            refine zx_get hx hb hown hts hK hX 18 (by decide) q1039 rfl rfl dX3_goes_176 ?_
            refine lv_iload_n hx hb dX3_goes_179 rfl (lv_at hl 4 rfl) ?_
            refine zx_ld (i := q) hx hb hK hX 18 rfl rfl (n := 60) rfl (by omega) dX3_goes_180 ?_
            refine zm_topi (y := zgr (X 18 q) j) (zu_s _ _ _ _) ?_
            refine lv_bipush (v := 10) hx hb dX3_goes_181 (by decide) ?_
            refine lv_idiv hx hb dX3_goes_183 (by decide) ?_
            refine lv_iadd hx hb dX3_goes_184 ?_
            refine lv_iadd hx hb dX3_goes_185 ?_
            refine zx_st (i := q) hx hb hK hX hS 18 rfl rfl (n := 60) rfl (by omega) dX3_goes_186 (fun H locs hX hS => ?_)
            have hX : zMX g A mo ma (zu (mGo2 X q km se) 18 q (zgr (X 18 q) (j + 1))) H := by rw [zu_zu] at hX; exact hX
            refine lv_iinc (v := nI (j + 1)) (lv' := [(6, .int (nI (j + 1))), (5, .int (mSt X q km)), (4, .int (X 6 q)), (0, .ref mo), (1, .int (nI q)), (2, .int km), (3, .int se)]) hx hb dX3_goes_187 hl (k := 0) rfl (nI_1 j) (by decide) rfl (fun ls hl => ?_)
            refine lv_goto (tgt := 160) hx hb dX3_goes_190 (by decide) ?_
            exact ih_9 (j + 1) (by omega) (by omega) _ _ _ hX hS (lv_sub hl [0, 1, 2, 3, 4, 5, 6] rfl)
      exact L_8 (((mSt X q km).toNatClampNeg + 1 - 0) + 1) 0 (Nat.lt_succ_self _) (by omega) _ _ _ hX hS (lv_sub hl [0, 1, 2, 3, 4, 5, 6] rfl)
  · refine lv_aload_n hx hb dX3_goes_38 rfl (lv_at hl 1 rfl) ?_
    refine zx_get hx hb hown hts hK hX 15 (by decide) q1036 rfl rfl dX3_goes_39 ?_
    refine lv_iload_n hx hb dX3_goes_42 rfl (lv_at hl 2 rfl) ?_
    refine zx_ld (i := q) hx hb hK hX 15 rfl rfl (n := 60) rfl (by omega) dX3_goes_43 ?_
    refine zm_topi (y := X 15 q) (by simp [zu]) ?_
    refine lv_istore (lv' := [(5, .int (X 15 q)), (4, .int (X 6 q)), (0, .ref mo), (1, .int (nI q)), (2, .int km), (3, .int se)]) hx hb dX3_goes_44 hl (by decide) rfl (fun ls hl => ?_)
    refine lv_aload_n hx hb dX3_goes_46 rfl (lv_at hl 2 rfl) ?_
    refine zx_get hx hb hown hts hK hX 15 (by decide) q1036 rfl rfl dX3_goes_47 ?_
    refine lv_iload_n hx hb dX3_goes_50 rfl (lv_at hl 3 rfl) ?_
    refine lv_dup2_11 hx hb dX3_goes_51 rfl rfl ?_
    refine zx_ld (i := q) hx hb hK hX 15 rfl rfl (n := 60) rfl (by omega) dX3_goes_52 ?_
    refine zm_topi (y := X 15 q) (by simp [zu]) ?_
    refine lv_iload_n hx hb dX3_goes_53 rfl (lv_at hl 4 rfl) ?_
    refine lv_iload_n hx hb dX3_goes_54 rfl (lv_at hl 5 rfl) ?_
    refine zc_i (zr_S (As := [.int se]) (rest := [.int km, .int (X 15 q), .int (nI q), .ref (ma 15)]) ⟨hx, hb, hml, hown, hts⟩ (ct_X3_factor l g A (zMX g A mo ma (zu (zu X 6 q ((X 6 q) + km)) 7 q ((X 7 q) + km))) se) zn_X3_factor (lw_S q1197 q1198 q48 q1199) (by decide) (by decide) hK (fun _ h => h) hS hX rfl hl.1 (Nat.le_of_ble_eq_true rfl) dX3_goes_55 ⟨Nat.le_refl _, Nat.le_refl _⟩) hS (fun _ h => h) (fun r _ H locs r_11 hX _ _ hS => ?_)
    subst r_11
    refine lv_imul hx hb dX3_goes_58 ?_
    refine lv_iadd hx hb dX3_goes_59 ?_
    refine zx_st (i := q) hx hb hK hX hS 15 rfl rfl (n := 60) rfl (by omega) dX3_goes_60 (fun H locs hX hS => ?_)
    refine lv_aload_n hx hb dX3_goes_61 rfl (lv_at hl 2 rfl) ?_
    refine zx_get hx hb hown hts hK hX 13 (by decide) q1034 rfl rfl dX3_goes_62 ?_
    refine lv_iload_n hx hb dX3_goes_65 rfl (lv_at hl 3 rfl) ?_
    refine lv_dup2_11 hx hb dX3_goes_66 rfl rfl ?_
    refine zx_ld (i := q) hx hb hK hX 13 rfl rfl (n := 60) rfl (by omega) dX3_goes_67 ?_
    refine zm_topi (y := X 13 q) (by simp [zu]) ?_
    refine lv_aload_n hx hb dX3_goes_68 rfl (lv_at hl 2 rfl) ?_
    refine zx_get hx hb hown hts hK hX 6 (by decide) q1027 rfl rfl dX3_goes_69 ?_
    refine lv_iload_n hx hb dX3_goes_72 rfl (lv_at hl 3 rfl) ?_
    refine zx_ld (i := q) hx hb hK hX 6 rfl rfl (n := 60) rfl (by omega) dX3_goes_73 ?_
    refine zm_topi (y := (X 6 q) + km) (by simp [zu]) ?_
    refine lv_bipush (v := 100) hx hb dX3_goes_74 (by decide) ?_
    refine lv_idiv hx hb dX3_goes_76 (by decide) ?_
    refine lv_iload hx hb dX3_goes_77 (lv_at hl 1 rfl) ?_
    refine lv_bipush (v := 100) hx hb dX3_goes_79 (by decide) ?_
    refine lv_idiv hx hb dX3_goes_81 (by decide) ?_
    refine lv_isub hx hb dX3_goes_82 ?_
    refine lv_isub hx hb dX3_goes_83 ?_
    refine zx_st (i := q) hx hb hK hX hS 13 rfl rfl (n := 60) rfl (by omega) dX3_goes_84 (fun H locs hX hS => ?_)
    refine lv_aload_n hx hb dX3_goes_85 rfl (lv_at hl 2 rfl) ?_
    refine zx_get hx hb hown hts hK hX 14 (by decide) q1035 rfl rfl dX3_goes_86 ?_
    refine lv_iload_n hx hb dX3_goes_89 rfl (lv_at hl 3 rfl) ?_
    refine lv_dup2_11 hx hb dX3_goes_90 rfl rfl ?_
    refine zx_ld (i := q) hx hb hK hX 14 rfl rfl (n := 60) rfl (by omega) dX3_goes_91 ?_
    refine zm_topi (y := X 14 q) (by simp [zu]) ?_
    refine lv_aload_n hx hb dX3_goes_92 rfl (lv_at hl 2 rfl) ?_
    refine zx_get hx hb hown hts hK hX 15 (by decide) q1036 rfl rfl dX3_goes_93 ?_
    refine lv_iload_n hx hb dX3_goes_96 rfl (lv_at hl 3 rfl) ?_
    refine zx_ld (i := q) hx hb hK hX 15 rfl rfl (n := 60) rfl (by omega) dX3_goes_97 ?_
    refine zm_topi (y := (X 15 q) + (km * (mFa se))) (by simp [zu]) ?_
    refine lv_sipush (v := 200) hx hb dX3_goes_98 (by decide) ?_
    refine lv_idiv hx hb dX3_goes_101 (by decide) ?_
    refine lv_iload hx hb dX3_goes_102 (lv_at hl 0 rfl) ?_
    refine lv_sipush (v := 200) hx hb dX3_goes_104 (by decide) ?_
    refine lv_idiv hx hb dX3_goes_107 (by decide) ?_
    refine lv_isub hx hb dX3_goes_108 ?_
    refine lv_isub hx hb dX3_goes_109 ?_
    refine zx_st (i := q) hx hb hK hX hS 14 rfl rfl (n := 60) rfl (by omega) dX3_goes_110 (fun H locs hX hS => ?_)
    have e0 : zu (zu (zu (zu (zu X 6 q ((X 6 q) + km)) 7 q ((X 7 q) + km)) 15 q ((X 15 q) + (km * (mFa se)))) 13 q ((X 13 q) - ((((X 6 q) + km) / 100) - ((X 6 q) / 100)))) 14 q ((X 14 q) - ((((X 15 q) + (km * (mFa se))) / 200) - ((X 15 q) / 200))) = mGo2 X q km se := by simp [mGo2, mGo1, c_1]
    rw [e0] at hX
    refine lv_aload_n hx hb dX3_goes_111 rfl (lv_at hl 2 rfl) ?_
    refine zx_get hx hb hown hts hK hX 18 (by decide) q1039 rfl rfl dX3_goes_112 ?_
    refine lv_iload_n hx hb dX3_goes_115 rfl (lv_at hl 3 rfl) ?_
    refine zx_ld (i := q) hx hb hK hX 18 rfl rfl (n := 60) rfl (by omega) dX3_goes_116 ?_
    refine zm_topi (y := X 18 q) (congrFun (mGo2_cg _ _ _ _ (by decide) (by decide) (by decide) (by decide) (by decide)) q) ?_
    refine lv_if_ne (tgt := 124) hx hb dX3_goes_117 (by decide) (fun c_12 => ?_) (fun c_12 => ?_)
    · refine lv_aload_n hx hb dX3_goes_124 rfl (lv_at hl 2 rfl) ?_
      refine zx_get hx hb hown hts hK hX 6 (by decide) q1027 rfl rfl dX3_goes_125 ?_
      refine lv_iload_n hx hb dX3_goes_128 rfl (lv_at hl 3 rfl) ?_
      refine zx_ld (i := q) hx hb hK hX 6 rfl rfl (n := 60) rfl (by omega) dX3_goes_129 ?_
      refine zm_topi (y := X 6 q + km) (mGo2_6 _ _ _ _) ?_
      refine lv_aload_n hx hb dX3_goes_130 rfl (lv_at hl 2 rfl) ?_
      refine zx_get hx hb hown hts hK hX 19 (by decide) q1040 rfl rfl dX3_goes_131 ?_
      refine lv_iload_n hx hb dX3_goes_134 rfl (lv_at hl 3 rfl) ?_
      refine zx_ld (i := q) hx hb hK hX 19 rfl rfl (n := 60) rfl (by omega) dX3_goes_135 ?_
      refine zm_topi (y := X 19 q) (congrFun (mGo2_cg _ _ _ _ (by decide) (by decide) (by decide) (by decide) (by decide)) q) ?_
      refine lv_isub hx hb dX3_goes_136 ?_
      refine lv_sipush (v := 500) hx hb dX3_goes_137 (by decide) ?_
      refine lv_idiv hx hb dX3_goes_140 (by decide) ?_
      refine lv_iload hx hb dX3_goes_141 (lv_at hl 1 rfl) ?_
      refine lv_aload_n hx hb dX3_goes_143 rfl (lv_at hl 2 rfl) ?_
      refine zx_get hx hb hown hts hK hX 19 (by decide) q1040 rfl rfl dX3_goes_144 ?_
      refine lv_iload_n hx hb dX3_goes_147 rfl (lv_at hl 3 rfl) ?_
      refine zx_ld (i := q) hx hb hK hX 19 rfl rfl (n := 60) rfl (by omega) dX3_goes_148 ?_
      refine zm_topi (y := X 19 q) (congrFun (mGo2_cg _ _ _ _ (by decide) (by decide) (by decide) (by decide) (by decide)) q) ?_
      refine lv_isub hx hb dX3_goes_149 ?_
      refine lv_sipush (v := 500) hx hb dX3_goes_150 (by decide) ?_
      refine lv_idiv hx hb dX3_goes_153 (by decide) ?_
      refine lv_isub hx hb dX3_goes_154 ?_
      refine zm_topi (y := mSt X q km) (by simp [mSt, c_12]) ?_
      refine lv_istore (lv' := [(5, .int (mSt X q km)), (4, .int (X 6 q)), (0, .ref mo), (1, .int (nI q)), (2, .int km), (3, .int se)]) hx hb dX3_goes_155 hl (by decide) rfl (fun ls hl => ?_)
      have hX : zMX g A mo ma (zu (mGo2 X q km se) 18 q (zgr (X 18 q) 0)) H := by rw [show zgr (X 18 q) 0 = mGo2 X q km se 18 q from (congrFun (mGo2_cg _ _ _ _ (by decide) (by decide) (by decide) (by decide) (by decide)) q).symm, zu_r _ _ _ _ rfl]; exact hX
      refine lv_iconst (v := 0) hx hb dX3_goes_157 (by decide) ?_
      refine lv_istore (lv' := [(6, .int 0), (5, .int (mSt X q km)), (4, .int (X 6 q)), (0, .ref mo), (1, .int (nI q)), (2, .int km), (3, .int se)]) hx hb dX3_goes_158 hl (by decide) rfl (fun ls hl => ?_)
      have L_14 : ∀ (n_13 : Nat) (j : Nat), (mSt X q km).toNatClampNeg + 1 - j < n_13 → (j ≤ (mSt X q km).toNatClampNeg) → ∀ (H : Heap) (locs : List Loc) (ls : Array Slot), zMX g A mo ma (zu (mGo2 X q km se) 18 q (zgr (X 18 q) j)) H → va_S A s.heap H locs → lv_has ls 7 [(6, .int (nI j)), (5, .int (mSt X q km)), (4, .int (X 6 q)), (0, .ref mo), (1, .int (nI q)), (2, .int km), (3, .int se)] → W p l e (zR 2 0 0) s m args below meth c H locs 0 0 (MQ below (va_Qv (fun (_ : Unit) => True) (fun (_ : Unit) t => zMX g A mo ma (m_goes X q km se) t.heap) A) args s 0 0 A) (F0 m 160 ls []) := by
        intro n_13
        induction n_13 with
        | zero => intro j hm; exact absurd hm (Nat.not_lt_zero _)
        | succ n_13 ih =>
          intro j hm hj H locs ls hX hS hl
          have ih_15 := ih
          have hcl := zcl (mSt X q km)
          refine lv_iload hx hb dX3_goes_160 (lv_at hl 0 rfl) ?_
          refine lv_iload hx hb dX3_goes_162 (lv_at hl 1 rfl) ?_
          refine lv_icmp_ge (tgt := 193) hx hb dX3_goes_164 (by decide) (fun c_16 => ?_) (fun c_16 => ?_)
          · have e2 : zu (mGo2 X q km se) 18 q (zgr (X 18 q) j) = m_goes X q km se := by have q2 := zge_t hj c_16; subst q2; rfl
            rw [e2] at hX
            exact ze_v hx hb hr hlocks hS dX3_goes_193 (Nat.le_refl _) (Nat.le_refl _) () trivial hX
          · have hlt := zge_f (by omega) c_16
            refine lv_aload_n hx hb dX3_goes_167 rfl (lv_at hl 3 rfl) ?_
            refine zx_get hx hb hown hts hK hX 18 (by decide) q1039 rfl rfl dX3_goes_168 ?_
            refine lv_iload_n hx hb dX3_goes_171 rfl (lv_at hl 4 rfl) ?_
            refine lv_dup2_11 hx hb dX3_goes_172 rfl rfl ?_
            refine zx_ld (i := q) hx hb hK hX 18 rfl rfl (n := 60) rfl (by omega) dX3_goes_173 ?_
            refine zm_topi (y := zgr (X 18 q) j) (zu_s _ _ _ _) ?_
            refine lv_iconst (v := 1) hx hb dX3_goes_174 (by decide) ?_
            refine lv_aload_n hx hb dX3_goes_175 rfl (lv_at hl 3 rfl) ?_
            refine zx_get hx hb hown hts hK hX 18 (by decide) q1039 rfl rfl dX3_goes_176 ?_
            refine lv_iload_n hx hb dX3_goes_179 rfl (lv_at hl 4 rfl) ?_
            refine zx_ld (i := q) hx hb hK hX 18 rfl rfl (n := 60) rfl (by omega) dX3_goes_180 ?_
            refine zm_topi (y := zgr (X 18 q) j) (zu_s _ _ _ _) ?_
            refine lv_bipush (v := 10) hx hb dX3_goes_181 (by decide) ?_
            refine lv_idiv hx hb dX3_goes_183 (by decide) ?_
            refine lv_iadd hx hb dX3_goes_184 ?_
            refine lv_iadd hx hb dX3_goes_185 ?_
            refine zx_st (i := q) hx hb hK hX hS 18 rfl rfl (n := 60) rfl (by omega) dX3_goes_186 (fun H locs hX hS => ?_)
            have hX : zMX g A mo ma (zu (mGo2 X q km se) 18 q (zgr (X 18 q) (j + 1))) H := by rw [zu_zu] at hX; exact hX
            refine lv_iinc (v := nI (j + 1)) (lv' := [(6, .int (nI (j + 1))), (5, .int (mSt X q km)), (4, .int (X 6 q)), (0, .ref mo), (1, .int (nI q)), (2, .int km), (3, .int se)]) hx hb dX3_goes_187 hl (k := 0) rfl (nI_1 j) (by decide) rfl (fun ls hl => ?_)
            refine lv_goto (tgt := 160) hx hb dX3_goes_190 (by decide) ?_
            exact ih_15 (j + 1) (by omega) (by omega) _ _ _ hX hS (lv_sub hl [0, 1, 2, 3, 4, 5, 6] rfl)
      exact L_14 (((mSt X q km).toNatClampNeg + 1 - 0) + 1) 0 (Nat.lt_succ_self _) (by omega) _ _ _ hX hS (lv_sub hl [0, 1, 2, 3, 4, 5, 6] rfl)
    · refine lv_iconst (v := 0) hx hb dX3_goes_120 (by decide) ?_
      refine lv_goto (tgt := 155) hx hb dX3_goes_121 (by decide) ?_
      refine zm_topi (y := mSt X q km) (by simp [mSt, c_12]) ?_
      refine lv_istore (lv' := [(5, .int (mSt X q km)), (4, .int (X 6 q)), (0, .ref mo), (1, .int (nI q)), (2, .int km), (3, .int se)]) hx hb dX3_goes_155 hl (by decide) rfl (fun ls hl => ?_)
      have hX : zMX g A mo ma (zu (mGo2 X q km se) 18 q (zgr (X 18 q) 0)) H := by rw [show zgr (X 18 q) 0 = mGo2 X q km se 18 q from (congrFun (mGo2_cg _ _ _ _ (by decide) (by decide) (by decide) (by decide) (by decide)) q).symm, zu_r _ _ _ _ rfl]; exact hX
      refine lv_iconst (v := 0) hx hb dX3_goes_157 (by decide) ?_
      refine lv_istore (lv' := [(6, .int 0), (5, .int (mSt X q km)), (4, .int (X 6 q)), (0, .ref mo), (1, .int (nI q)), (2, .int km), (3, .int se)]) hx hb dX3_goes_158 hl (by decide) rfl (fun ls hl => ?_)
      have L_18 : ∀ (n_17 : Nat) (j : Nat), (mSt X q km).toNatClampNeg + 1 - j < n_17 → (j ≤ (mSt X q km).toNatClampNeg) → ∀ (H : Heap) (locs : List Loc) (ls : Array Slot), zMX g A mo ma (zu (mGo2 X q km se) 18 q (zgr (X 18 q) j)) H → va_S A s.heap H locs → lv_has ls 7 [(6, .int (nI j)), (5, .int (mSt X q km)), (4, .int (X 6 q)), (0, .ref mo), (1, .int (nI q)), (2, .int km), (3, .int se)] → W p l e (zR 2 0 0) s m args below meth c H locs 0 0 (MQ below (va_Qv (fun (_ : Unit) => True) (fun (_ : Unit) t => zMX g A mo ma (m_goes X q km se) t.heap) A) args s 0 0 A) (F0 m 160 ls []) := by
        intro n_17
        induction n_17 with
        | zero => intro j hm; exact absurd hm (Nat.not_lt_zero _)
        | succ n_17 ih =>
          intro j hm hj H locs ls hX hS hl
          have ih_19 := ih
          have hcl := zcl (mSt X q km)
          refine lv_iload hx hb dX3_goes_160 (lv_at hl 0 rfl) ?_
          refine lv_iload hx hb dX3_goes_162 (lv_at hl 1 rfl) ?_
          refine lv_icmp_ge (tgt := 193) hx hb dX3_goes_164 (by decide) (fun c_20 => ?_) (fun c_20 => ?_)
          · have e2 : zu (mGo2 X q km se) 18 q (zgr (X 18 q) j) = m_goes X q km se := by have q2 := zge_t hj c_20; subst q2; rfl
            rw [e2] at hX
            exact ze_v hx hb hr hlocks hS dX3_goes_193 (Nat.le_refl _) (Nat.le_refl _) () trivial hX
          · have hlt := zge_f (by omega) c_20
            refine lv_aload_n hx hb dX3_goes_167 rfl (lv_at hl 3 rfl) ?_
            refine zx_get hx hb hown hts hK hX 18 (by decide) q1039 rfl rfl dX3_goes_168 ?_
            refine lv_iload_n hx hb dX3_goes_171 rfl (lv_at hl 4 rfl) ?_
            refine lv_dup2_11 hx hb dX3_goes_172 rfl rfl ?_
            refine zx_ld (i := q) hx hb hK hX 18 rfl rfl (n := 60) rfl (by omega) dX3_goes_173 ?_
            refine zm_topi (y := zgr (X 18 q) j) (zu_s _ _ _ _) ?_
            refine lv_iconst (v := 1) hx hb dX3_goes_174 (by decide) ?_
            refine lv_aload_n hx hb dX3_goes_175 rfl (lv_at hl 3 rfl) ?_
            refine zx_get hx hb hown hts hK hX 18 (by decide) q1039 rfl rfl dX3_goes_176 ?_
            refine lv_iload_n hx hb dX3_goes_179 rfl (lv_at hl 4 rfl) ?_
            refine zx_ld (i := q) hx hb hK hX 18 rfl rfl (n := 60) rfl (by omega) dX3_goes_180 ?_
            refine zm_topi (y := zgr (X 18 q) j) (zu_s _ _ _ _) ?_
            refine lv_bipush (v := 10) hx hb dX3_goes_181 (by decide) ?_
            refine lv_idiv hx hb dX3_goes_183 (by decide) ?_
            refine lv_iadd hx hb dX3_goes_184 ?_
            refine lv_iadd hx hb dX3_goes_185 ?_
            refine zx_st (i := q) hx hb hK hX hS 18 rfl rfl (n := 60) rfl (by omega) dX3_goes_186 (fun H locs hX hS => ?_)
            have hX : zMX g A mo ma (zu (mGo2 X q km se) 18 q (zgr (X 18 q) (j + 1))) H := by rw [zu_zu] at hX; exact hX
            refine lv_iinc (v := nI (j + 1)) (lv' := [(6, .int (nI (j + 1))), (5, .int (mSt X q km)), (4, .int (X 6 q)), (0, .ref mo), (1, .int (nI q)), (2, .int km), (3, .int se)]) hx hb dX3_goes_187 hl (k := 0) rfl (nI_1 j) (by decide) rfl (fun ls hl => ?_)
            refine lv_goto (tgt := 160) hx hb dX3_goes_190 (by decide) ?_
            exact ih_19 (j + 1) (by omega) (by omega) _ _ _ hX hS (lv_sub hl [0, 1, 2, 3, 4, 5, 6] rfl)
      exact L_18 (((mSt X q km).toNatClampNeg + 1 - 0) + 1) 0 (Nat.lt_succ_self _) (by omega) _ _ _ hX hS (lv_sub hl [0, 1, 2, 3, 4, 5, 6] rfl)
