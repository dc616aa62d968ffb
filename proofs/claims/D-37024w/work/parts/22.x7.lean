/-! THE REFERENCE's METHODS, 7: their contracts -/
theorem zn_X3_plan : zN yX3_plan 0 := by decide +kernel
set_option maxHeartbeats 4000000 in
theorem ct_X3_plan (l : Launch) (g : zG) (A : Nat → Prop) (mo : Nat) (ma : Nat → Nat) (X : zX) (hn60 : mN X ≤ 60) (hW : X 26 0 = nI (mW X) ∧ mW X ≤ 8) (hQ : MQw X) : Met l yX3_plan (ws_ yX3_plan cX3_plan 1 (some .int)) (zR 3 0 0) (zP [.ref mo] g A (zMX g A mo ma X)) (va_Qi (fun rz_ (_ : Unit) => rz_ = (m_plan X).1) (fun (_ : Unit) t => zMX g A mo ma ((m_plan X).2) t.heap) A) 0 0 A := by
  refine zb_met (by decide) (Nat.le_of_ble_eq_true rfl) ?_
  intro p e s m args below meth c ls hx hb hr hml hown hts hlocks hnm hK hX ha hl
  have hown : s.vm.findClass RX3 = some m.cls := hown
  have hS : va_S A s.heap s.heap [] := va_S.rf
  have hl : lv_has ls 1 [(0, .ref mo)] := hl
  refine lv_aload_n hx hb dX3_plan_0 rfl (lv_at hl 0 rfl) ?_
  refine lv_iconst (v := 0) hx hb dX3_plan_1 (by decide) ?_
  refine zx_put hx hb hown hts hK hX hS 0 (by decide) rfl q1021 rfl rfl rfl rfl dX3_plan_2 (fun H locs hX hS => ?_)
  refine lv_aload_n hx hb dX3_plan_5 rfl (lv_at hl 0 rfl) ?_
  refine zx_get hx hb hown hts hK hX 26 (by decide) q1047 rfl rfl dX3_plan_6 ?_
  refine zm_topi (y := X 26 0) (by simp [zu]) ?_
  refine zm_topi (y := nI (mW X)) (hW.1) ?_
  refine zl_ifne0 (tgt := 16) (a := mW X) hx hb (by first | decide | omega) dX3_plan_9 (by decide) (fun c_1 => ?_) (fun c_1 => ?_)
  · refine lv_aload_n hx hb dX3_plan_16 rfl (lv_at hl 0 rfl) ?_
    refine zc_i (zr_V (As := []) (rest := []) ⟨hx, hb, hml, hown, hts⟩ (ct_X3_plans l g A mo ma (zu X 0 0 0) (by first | omega | simpa [mN_w] using hn60) (by simpa [mW_w, zu, m_moves, m_ends] using hW) (by intro k_ hk_; have hz_ := hQ k_ (by simpa [mW_w] using hk_); simpa [mWt_w, mN_w, zu] using hz_)) zn_X3_plans (lw_V q1282 q1284 qs35 q48 q1285) rfl (by decide) (by decide) hK (fun _ h => h) hS hX (zx_recv hK hX) rfl hl.1 (Nat.le_of_ble_eq_true rfl) dX3_plan_17 ⟨Nat.le_refl _, Nat.le_refl _⟩) hS (fun _ h => h) (fun r _ H locs r_2 hX _ _ hS => ?_)
    subst r_2
    have e1 : ((m_plans (zu X 0 0 0)).1 : Int32) = (m_plan X).1 := by first | (simp [m_plan, c_1]; done) | (have h0 : ¬ mW X = 0 := (by omega); simp [m_plan, h0]; done)
    have e2 : (m_plans (zu X 0 0 0)).2 = (m_plan X).2 := by first | (simp [m_plan, c_1]; done) | (have h0 : ¬ mW X = 0 := (by omega); simp [m_plan, h0]; done)
    rw [e2] at hX
    exact ze_i hx hb hr hlocks hS dX3_plan_20 (Nat.le_refl _) (Nat.le_refl _) () e1 hX
  · refine lv_iconst (v := 0) hx hb dX3_plan_12 (by decide) ?_
    refine lv_goto (tgt := 20) hx hb dX3_plan_13 (by decide) ?_
    have e1 : (0 : Int32) = (m_plan X).1 := by first | (simp [m_plan, c_1]; done) | (have h0 : ¬ mW X = 0 := (by omega); simp [m_plan, h0]; done)
    have e2 : zu X 0 0 0 = (m_plan X).2 := by first | (simp [m_plan, c_1]; done) | (have h0 : ¬ mW X = 0 := (by omega); simp [m_plan, h0]; done)
    rw [e2] at hX
    exact ze_i hx hb hr hlocks hS dX3_plan_20 (Nat.le_refl _) (Nat.le_refl _) () e1 hX
theorem zn_X3_planAnew : zN yX3_planAnew 0 := by decide +kernel
set_option maxHeartbeats 4000000 in
theorem ct_X3_planAnew (l : Launch) (g : zG) (A : Nat → Prop) (mo : Nat) (ma : Nat → Nat) (X : zX) (hn60 : mN X ≤ 60) (hW : X 26 0 = nI (mW X) ∧ mW X ≤ 8) (hQ : MQw X) : Met l yX3_planAnew (ws_ yX3_planAnew cX3_planAnew 1 (some .int)) (zR 3 0 0) (zP [.ref mo] g A (zMX g A mo ma X)) (va_Qi (fun rz_ (_ : Unit) => rz_ = (m_plan X).1) (fun (_ : Unit) t => zMX g A mo ma ((m_plan X).2) t.heap) A) 0 0 A := by
  refine zb_met (by decide) (Nat.le_of_ble_eq_true rfl) ?_
  intro p e s m args below meth c ls hx hb hr hml hown hts hlocks hnm hK hX ha hl
  have hown : s.vm.findClass RX3 = some m.cls := hown
  have hS : va_S A s.heap s.heap [] := va_S.rf
  have hl : lv_has ls 1 [(0, .ref mo)] := hl
  refine lv_aload_n hx hb dX3_planAnew_0 rfl (lv_at hl 0 rfl) ?_
  refine lv_iconst (v := 0) hx hb dX3_planAnew_1 (by decide) ?_
  refine zx_put hx hb hown hts hK hX hS 0 (by decide) rfl q1021 rfl rfl rfl rfl dX3_planAnew_2 (fun H locs hX hS => ?_)
  refine lv_aload_n hx hb dX3_planAnew_5 rfl (lv_at hl 0 rfl) ?_
  refine zx_get hx hb hown hts hK hX 26 (by decide) q1047 rfl rfl dX3_planAnew_6 ?_
  refine zm_topi (y := X 26 0) (by simp [zu]) ?_
  refine zm_topi (y := nI (mW X)) (hW.1) ?_
  refine zl_ifne0 (tgt := 16) (a := mW X) hx hb (by first | decide | omega) dX3_planAnew_9 (by decide) (fun c_1 => ?_) (fun c_1 => ?_)
  · refine lv_aload_n hx hb dX3_planAnew_16 rfl (lv_at hl 0 rfl) ?_
    refine zc_i (zr_V (As := []) (rest := []) ⟨hx, hb, hml, hown, hts⟩ (ct_X3_plans l g A mo ma (zu X 0 0 0) (by first | omega | simpa [mN_w] using hn60) (by simpa [mW_w, zu, m_moves, m_ends] using hW) (by intro k_ hk_; have hz_ := hQ k_ (by simpa [mW_w] using hk_); simpa [mWt_w, mN_w, zu] using hz_)) zn_X3_plans (lw_V q1282 q1284 qs35 q48 q1285) rfl (by decide) (by decide) hK (fun _ h => h) hS hX (zx_recv hK hX) rfl hl.1 (Nat.le_of_ble_eq_true rfl) dX3_planAnew_17 ⟨Nat.le_refl _, Nat.le_refl _⟩) hS (fun _ h => h) (fun r _ H locs r_2 hX _ _ hS => ?_)
    subst r_2
    have e1 : ((m_plans (zu X 0 0 0)).1 : Int32) = (m_plan X).1 := by first | (simp [m_plan, c_1]; done) | (have h0 : ¬ mW X = 0 := (by omega); simp [m_plan, h0]; done)
    have e2 : (m_plans (zu X 0 0 0)).2 = (m_plan X).2 := by first | (simp [m_plan, c_1]; done) | (have h0 : ¬ mW X = 0 := (by omega); simp [m_plan, h0]; done)
    rw [e2] at hX
    exact ze_i hx hb hr hlocks hS dX3_planAnew_20 (Nat.le_refl _) (Nat.le_refl _) () e1 hX
  · refine lv_iconst (v := 0) hx hb dX3_planAnew_12 (by decide) ?_
    refine lv_goto (tgt := 20) hx hb dX3_planAnew_13 (by decide) ?_
    have e1 : (0 : Int32) = (m_plan X).1 := by first | (simp [m_plan, c_1]; done) | (have h0 : ¬ mW X = 0 := (by omega); simp [m_plan, h0]; done)
    have e2 : zu X 0 0 0 = (m_plan X).2 := by first | (simp [m_plan, c_1]; done) | (have h0 : ¬ mW X = 0 := (by omega); simp [m_plan, h0]; done)
    rw [e2] at hX
    exact ze_i hx hb hr hlocks hS dX3_planAnew_20 (Nat.le_refl _) (Nat.le_refl _) () e1 hX
theorem zn_X3_night : zN yX3_night 0 := by decide +kernel
set_option maxHeartbeats 4000000 in
theorem ct_X3_night (l : Launch) (g : zG) (A : Nat → Prop) (mo : Nat) (ma : Nat → Nat) (X : zX) (hn60 : mN X ≤ 60) (hW : X 26 0 = nI (mW X) ∧ mW X ≤ 8) (hQ : MQw X) (hR : MR X) (hB : mBst (m_plans (zu X 0 0 0)).2) : Met l yX3_night (ws_ yX3_night cX3_night 3 (some .int)) (zR 3 0 0) (zP [.ref mo] g A (zMX g A mo ma X)) (va_Qi (fun rz_ (_ : Unit) => rz_ = (m_night X).1) (fun (_ : Unit) t => zMX g A mo ma ((m_night X).2) t.heap) A) 0 0 A := by
  refine zb_met (by decide) (Nat.le_of_ble_eq_true rfl) ?_
  intro p e s m args below meth c ls hx hb hr hml hown hts hlocks hnm hK hX ha hl
  have hown : s.vm.findClass RX3 = some m.cls := hown
  have hS : va_S A s.heap s.heap [] := va_S.rf
  have hl : lv_has ls 3 [(0, .ref mo)] := hl
  have hR0 := (hR 0 (by decide)).2.1
  have hR1 := (hR 1 (by decide)).2.1
  have hR2 := (hR 2 (by decide)).2.1
  refine lv_aload_n hx hb dX3_night_0 rfl (lv_at hl 0 rfl) ?_
  refine lv_aload_n hx hb dX3_night_1 rfl (lv_at hl 0 rfl) ?_
  refine zx_get hx hb hown hts hK hX 26 (by decide) q1047 rfl rfl dX3_night_2 ?_
  refine zm_topi (y := nI (mW X)) (hW.1) ?_
  refine zl_ifeq0 (tgt := 31) (a := mW X) hx hb (by first | decide | omega) dX3_night_5 (by decide) (fun c_1 => ?_) (fun c_1 => ?_)
  · refine lv_iconst (v := 1) hx hb dX3_night_31 (by decide) ?_
    refine lv_goto (tgt := 36) hx hb dX3_night_32 (by decide) ?_
    refine zx_put hx hb hown hts hK hX hS 0 (by decide) rfl q1021 rfl rfl rfl rfl dX3_night_36 (fun H locs hX hS => ?_)
    refine lv_aload_n hx hb dX3_night_39 rfl (lv_at hl 0 rfl) ?_
    refine zx_get hx hb hown hts hK hX 0 (by decide) q1021 rfl rfl dX3_night_40 ?_
    refine zm_topi (y := 1) (by simp [zu]) ?_
    refine lv_if_le (tgt := 48) hx hb dX3_night_43 (by decide) (fun c_2 => absurd c_2 (by decide)) (fun _ => ?_)
    refine lv_iconst (v := 0) hx hb dX3_night_46 (by decide) ?_
    have e1 : (0 : Int32) = (m_night X).1 := by first | (simp [m_night, c_1]; done) | (have h0 : ¬ mW X = 0 := (by omega); have h1 : 0 < mR X 0 + mR X 1 + mR X 2 := (by omega); simp [m_night, h0, h1]; done)
    have e2 : zu X 0 0 1 = (m_night X).2 := by first | (simp [m_night, c_1]; done) | (have h0 : ¬ mW X = 0 := (by omega); have h1 : 0 < mR X 0 + mR X 1 + mR X 2 := (by omega); simp [m_night, h0, h1]; done)
    rw [e2] at hX
    exact ze_i hx hb hr hlocks hS dX3_night_47 (Nat.le_refl _) (Nat.le_refl _) () e1 hX
  · refine lv_aload_n hx hb dX3_night_8 rfl (lv_at hl 0 rfl) ?_
    refine zx_get hx hb hown hts hK hX 31 (by decide) q1052 rfl rfl dX3_night_9 ?_
    refine lv_iconst (v := 0) hx hb dX3_night_12 (by decide) ?_
    refine zx_ld (i := 0) hx hb hK hX 31 rfl rfl (n := 3) rfl (by decide) dX3_night_13 ?_
    refine zm_topi (y := nI (mR X 0)) ((hR 0 (by decide)).1) ?_
    refine lv_aload_n hx hb dX3_night_14 rfl (lv_at hl 0 rfl) ?_
    refine zx_get hx hb hown hts hK hX 31 (by decide) q1052 rfl rfl dX3_night_15 ?_
    refine lv_iconst (v := 1) hx hb dX3_night_18 (by decide) ?_
    refine zx_ld (i := 1) hx hb hK hX 31 rfl rfl (n := 3) rfl (by decide) dX3_night_19 ?_
    refine zm_topi (y := nI (mR X 1)) ((hR 1 (by decide)).1) ?_
    refine lv_iadd hx hb dX3_night_20 ?_
    refine zm_topi (y := nI (mR X 0 + (mR X 1))) (nI_add (mR X 0) (mR X 1)) ?_
    refine lv_aload_n hx hb dX3_night_21 rfl (lv_at hl 0 rfl) ?_
    refine zx_get hx hb hown hts hK hX 31 (by decide) q1052 rfl rfl dX3_night_22 ?_
    refine lv_iconst (v := 2) hx hb dX3_night_25 (by decide) ?_
    refine zx_ld (i := 2) hx hb hK hX 31 rfl rfl (n := 3) rfl (by decide) dX3_night_26 ?_
    refine zm_topi (y := nI (mR X 2)) ((hR 2 (by decide)).1) ?_
    refine lv_iadd hx hb dX3_night_27 ?_
    refine zm_topi (y := nI (mR X 0 + (mR X 1) + (mR X 2))) (nI_add (mR X 0 + (mR X 1)) (mR X 2)) ?_
    refine zl_ifle0 (tgt := 35) (a := mR X 0 + (mR X 1) + (mR X 2)) hx hb (by first | decide | omega) dX3_night_28 (by decide) (fun c_3 => ?_) (fun c_3 => ?_)
    · refine lv_iconst (v := 0) hx hb dX3_night_35 (by decide) ?_
      refine zx_put hx hb hown hts hK hX hS 0 (by decide) rfl q1021 rfl rfl rfl rfl dX3_night_36 (fun H locs hX hS => ?_)
      refine lv_aload_n hx hb dX3_night_39 rfl (lv_at hl 0 rfl) ?_
      refine zx_get hx hb hown hts hK hX 0 (by decide) q1021 rfl rfl dX3_night_40 ?_
      refine zm_topi (y := 0) (by simp [zu]) ?_
      refine lv_if_le (tgt := 48) hx hb dX3_night_43 (by decide) (fun _ => ?_) (fun c_4 => absurd (by decide) c_4)
      refine lv_aload_n hx hb dX3_night_48 rfl (lv_at hl 0 rfl) ?_
      refine zc_i (zr_V (As := []) (rest := []) ⟨hx, hb, hml, hown, hts⟩ (ct_X3_plans l g A mo ma (zu X 0 0 0) (by first | omega | simpa [mN_w] using hn60) (by simpa [mW_w, zu, m_moves, m_ends] using hW) (by intro k_ hk_; have hz_ := hQ k_ (by simpa [mW_w] using hk_); simpa [mWt_w, mN_w, zu] using hz_)) zn_X3_plans (lw_V q1282 q1284 qs35 q48 q1285) rfl (by decide) (by decide) hK (fun _ h => h) hS hX (zx_recv hK hX) rfl hl.1 (Nat.le_of_ble_eq_true rfl) dX3_night_49 ⟨Nat.le_refl _, Nat.le_refl _⟩) hS (fun _ h => h) (fun r _ H locs r_5 hX _ _ hS => ?_)
      subst r_5
      obtain ⟨P, hP⟩ : ∃ P, P = (m_plans (zu X 0 0 0)).2 := ⟨_, rfl⟩
      rw [← hP] at hX hB
      have hpr : zPr (zu X 0 0 0) P := by rw [hP]; exact mPs_pr _ _
      have hPW : mW P = mW X := by rw [hpr.eW]; simp [mW_w]
      have hPN : mN P = mN X := by rw [hpr.eN]; simp [mN_w]
      have hz0 : ∀ r, r < 3 → P 31 r = 0 := by
        intro r hr3
        rw [hpr 31 (by decide) (by decide), zu_n _ _ _ _ (fun q => absurd q.1 (by decide)), (hR r hr3).1]
        rcases (show r = 0 ∨ r = 1 ∨ r = 2 by omega) with rfl | rfl | rfl
        · rw [show mR X 0 = 0 by omega]; rfl
        · rw [show mR X 1 = 0 by omega]; rfl
        · rw [show mR X 2 = 0 by omega]; rfl
      refine lv_istore_n (lv' := [(1, .int ((m_plans (zu X 0 0 0)).1)), (0, .ref mo)]) hx hb dX3_night_52 rfl hl (by decide) rfl (fun ls hl => ?_)
      refine lv_iconst (v := 0) hx hb dX3_night_53 (by decide) ?_
      refine lv_istore_n (lv' := [(2, .int 0), (1, .int ((m_plans (zu X 0 0 0)).1)), (0, .ref mo)]) hx hb dX3_night_54 rfl hl (by decide) rfl (fun ls hl => ?_)
      have L_7 : ∀ (n_6 : Nat) (j : Nat), mW X + 1 - j < n_6 → (j ≤ mW X) → ∀ (H : Heap) (locs : List Loc) (ls : Array Slot), zMX g A mo ma (mNg P j) H → va_S A s.heap H locs → lv_has ls 3 [(2, .int (nI j)), (1, .int ((m_plans (zu X 0 0 0)).1)), (0, .ref mo)] → W p l e (zR 3 0 0) s m args below meth c H locs 0 0 (MQ below (va_Qi (fun rz_ (_ : Unit) => rz_ = (m_night X).1) (fun (_ : Unit) t => zMX g A mo ma ((m_night X).2) t.heap) A) args s 0 0 A) (F0 m 55 ls []) := by
        intro n_6
        induction n_6 with
        | zero => intro j hm; exact absurd hm (Nat.not_lt_zero _)
        | succ n_6 ih =>
          intro j hm hj H locs ls hX hS hl
          have ih_8 := ih
          have hw26 : mNg P j 26 0 = nI (mW X) := by rw [mNg_cg P (by decide) (by decide) (by decide), hpr 26 (by decide) (by decide), zu_n _ _ _ _ (fun q => absurd q.1 (by decide))]; exact hW.1
          refine lv_iload_n hx hb dX3_night_55 rfl (lv_at hl 0 rfl) ?_
          refine lv_aload_n hx hb dX3_night_56 rfl (lv_at hl 2 rfl) ?_
          refine zx_get hx hb hown hts hK hX 26 (by decide) q1047 rfl rfl dX3_night_57 ?_
          refine zm_topi (y := nI (mW X)) (hw26) ?_
          refine zl_ge (tgt := 127) (a := j) (b := mW X) hx hb (by first | decide | omega) (by first | decide | omega) dX3_night_60 (by decide) (fun c_9 => ?_) (fun c_9 => ?_)
          · obtain rfl : j = mW X := by omega
            refine lv_aload_n hx hb dX3_night_127 rfl (lv_at hl 2 rfl) ?_
            refine lv_iconst (v := 0) hx hb dX3_night_128 (by decide) ?_
            refine zx_put hx hb hown hts hK hX hS 26 (by decide) rfl q1047 rfl rfl rfl rfl dX3_night_129 (fun H locs hX hS => ?_)
            refine lv_iload_n hx hb dX3_night_132 rfl (lv_at hl 1 rfl) ?_
            have e1 : ((m_plans (zu X 0 0 0)).1 : Int32) = (m_night X).1 := by have h0 : ¬ mW X = 0 := (by omega); have h1 : ¬ 0 < mR X 0 + mR X 1 + mR X 2 := (by omega); simp [m_night, h0, h1, ← hP]
            have e2 : zu (mNg P (mW X)) 26 0 0 = (m_night X).2 := by have h0 : ¬ mW X = 0 := (by omega); have h1 : ¬ 0 < mR X 0 + mR X 1 + mR X 2 := (by omega); simp [m_night, h0, h1, ← hP]
            rw [e2] at hX
            exact ze_i hx hb hr hlocks hS dX3_night_133 (Nat.le_refl _) (Nat.le_refl _) () e1 hX
          · have hjW : j < mW P := by rw [hPW]; exact c_9
            have e29 : mNg P j 29 = P 29 := mNg_cg P (by decide) (by decide) (by decide) j
            have hd9 : mNg P j 29 j = nI (mNg P j 29 j).toNatClampNeg ∧ (mNg P j 29 j).toNatClampNeg < 3 := by rw [e29]; exact hB.1 j hjW
            have hd93 := hd9.2
            have hr9 : mNg P j 31 (mNg P j 29 j).toNatClampNeg = nI (mR (mNg P j) (mNg P j 29 j).toNatClampNeg) ∧ mR (mNg P j) (mNg P j 29 j).toNatClampNeg < 4 := by rw [e29]; exact mNg_R4 hB hz0 hjW
            have hr94 := hr9.2
            have hw27 : mNg P j 27 j = nI (mWt (mNg P j) j) ∧ mWt (mNg P j) j < mN X := by
              have hz_ := hQ j (by omega)
              unfold mWt
              rw [mNg_cg P (by decide) (by decide) (by decide), hpr 27 (by decide) (by decide), zu_n _ _ _ _ (fun q => absurd q.1 (by decide))]
              exact hz_
            have hw279 := hw27.2
            refine lv_aload_n hx hb dX3_night_63 rfl (lv_at hl 2 rfl) ?_
            refine zx_get hx hb hown hts hK hX 32 (by decide) q1053 rfl rfl dX3_night_64 ?_
            refine lv_iconst (v := 4) hx hb dX3_night_67 (by decide) ?_
            refine lv_aload_n hx hb dX3_night_68 rfl (lv_at hl 2 rfl) ?_
            refine zx_get hx hb hown hts hK hX 29 (by decide) q1050 rfl rfl dX3_night_69 ?_
            refine lv_iload_n hx hb dX3_night_72 rfl (lv_at hl 0 rfl) ?_
            refine zx_ld (i := j) hx hb hK hX 29 rfl rfl (n := 8) rfl (by omega) dX3_night_73 ?_
            refine zm_topi (y := nI ((mNg P j 29 j).toNatClampNeg)) (hd9.1) ?_
            refine lv_imul hx hb dX3_night_74 ?_
            refine zm_topi (y := nI (4 * ((mNg P j 29 j).toNatClampNeg))) (pk_mul 4 ((mNg P j 29 j).toNatClampNeg)) ?_
            refine lv_aload_n hx hb dX3_night_75 rfl (lv_at hl 2 rfl) ?_
            refine zx_get hx hb hown hts hK hX 31 (by decide) q1052 rfl rfl dX3_night_76 ?_
            refine lv_aload_n hx hb dX3_night_79 rfl (lv_at hl 2 rfl) ?_
            refine zx_get hx hb hown hts hK hX 29 (by decide) q1050 rfl rfl dX3_night_80 ?_
            refine lv_iload_n hx hb dX3_night_83 rfl (lv_at hl 0 rfl) ?_
            refine zx_ld (i := j) hx hb hK hX 29 rfl rfl (n := 8) rfl (by omega) dX3_night_84 ?_
            refine zm_topi (y := nI ((mNg P j 29 j).toNatClampNeg)) (hd9.1) ?_
            refine zx_ld (i := (mNg P j 29 j).toNatClampNeg) hx hb hK hX 31 rfl rfl (n := 3) rfl (by omega) dX3_night_85 ?_
            refine zm_topi (y := nI (mR (mNg P j) (mNg P j 29 j).toNatClampNeg)) (hr9.1) ?_
            refine lv_iadd hx hb dX3_night_86 ?_
            refine zm_topi (y := nI (4 * ((mNg P j 29 j).toNatClampNeg) + (mR (mNg P j) (mNg P j 29 j).toNatClampNeg))) (nI_add (4 * ((mNg P j 29 j).toNatClampNeg)) (mR (mNg P j) (mNg P j 29 j).toNatClampNeg)) ?_
            refine lv_aload_n hx hb dX3_night_87 rfl (lv_at hl 2 rfl) ?_
            refine zx_get hx hb hown hts hK hX 27 (by decide) q1048 rfl rfl dX3_night_88 ?_
            refine lv_iload_n hx hb dX3_night_91 rfl (lv_at hl 0 rfl) ?_
            refine zx_ld (i := j) hx hb hK hX 27 rfl rfl (n := 8) rfl (by omega) dX3_night_92 ?_
            refine zm_topi (y := nI (mWt (mNg P j) j)) (hw27.1) ?_
            refine zx_st (i := 4 * ((mNg P j 29 j).toNatClampNeg) + (mR (mNg P j) (mNg P j 29 j).toNatClampNeg)) hx hb hK hX hS 32 rfl rfl (n := 12) rfl (by omega) dX3_night_93 (fun H locs hX hS => ?_)
            refine lv_aload_n hx hb dX3_night_94 rfl (lv_at hl 2 rfl) ?_
            refine zx_get hx hb hown hts hK hX 31 (by decide) q1052 rfl rfl dX3_night_95 ?_
            refine lv_aload_n hx hb dX3_night_98 rfl (lv_at hl 2 rfl) ?_
            refine zx_get hx hb hown hts hK hX 29 (by decide) q1050 rfl rfl dX3_night_99 ?_
            refine lv_iload_n hx hb dX3_night_102 rfl (lv_at hl 0 rfl) ?_
            refine zx_ld (i := j) hx hb hK hX 29 rfl rfl (n := 8) rfl (by omega) dX3_night_103 ?_
            refine zm_topi (y := (mNg P j) 29 j) (by simp [zu]) ?_
            refine zm_topi (y := nI ((mNg P j 29 j).toNatClampNeg)) (hd9.1) ?_
            refine lv_dup2_11 hx hb dX3_night_104 rfl rfl ?_
            refine zx_ld (i := (mNg P j 29 j).toNatClampNeg) hx hb hK hX 31 rfl rfl (n := 3) rfl (by omega) dX3_night_105 ?_
            refine zm_topi (y := (mNg P j) 31 ((mNg P j 29 j).toNatClampNeg)) (by simp [zu]) ?_
            refine zm_topi (y := nI (mR (mNg P j) (mNg P j 29 j).toNatClampNeg)) (hr9.1) ?_
            refine lv_iconst (v := 1) hx hb dX3_night_106 (by decide) ?_
            refine lv_iadd hx hb dX3_night_107 ?_
            refine zm_topi (y := nI (mR (mNg P j) (mNg P j 29 j).toNatClampNeg + 1)) (nI_1 (mR (mNg P j) (mNg P j 29 j).toNatClampNeg)) ?_
            refine zx_st (i := (mNg P j 29 j).toNatClampNeg) hx hb hK hX hS 31 rfl rfl (n := 3) rfl (by omega) dX3_night_108 (fun H locs hX hS => ?_)
            refine lv_aload_n hx hb dX3_night_109 rfl (lv_at hl 2 rfl) ?_
            refine zx_get hx hb hown hts hK hX 12 (by decide) q1033 rfl rfl dX3_night_110 ?_
            refine lv_aload_n hx hb dX3_night_113 rfl (lv_at hl 2 rfl) ?_
            refine zx_get hx hb hown hts hK hX 27 (by decide) q1048 rfl rfl dX3_night_114 ?_
            refine lv_iload_n hx hb dX3_night_117 rfl (lv_at hl 0 rfl) ?_
            refine zx_ld (i := j) hx hb hK hX 27 rfl rfl (n := 8) rfl (by omega) dX3_night_118 ?_
            refine zm_topi (y := (mNg P j) 27 j) (by simp [zu]) ?_
            refine zm_topi (y := nI (mWt (mNg P j) j)) (hw27.1) ?_
            refine lv_iconst (v := 1) hx hb dX3_night_119 (by decide) ?_
            refine zx_stz (i := mWt (mNg P j) j) hx hb hK hX hS 12 rfl rfl (n := 60) rfl (by omega) (Or.inr rfl) dX3_night_120 (fun H locs hX hS => ?_)
            have hX : zMX g A mo ma (mNg P (j + 1)) H := hX
            refine lv_iinc (v := nI (j + 1)) (lv' := [(2, .int (nI (j + 1))), (1, .int ((m_plans (zu X 0 0 0)).1)), (0, .ref mo)]) hx hb dX3_night_121 hl (k := 0) rfl (nI_1 j) (by decide) rfl (fun ls hl => ?_)
            refine lv_goto (tgt := 55) hx hb dX3_night_124 (by decide) ?_
            exact ih_8 (j + 1) (by omega) (by omega) _ _ _ hX hS (lv_sub hl [0, 1, 2] rfl)
      exact L_7 ((mW X + 1 - 0) + 1) 0 (Nat.lt_succ_self _) (by omega) _ _ _ hX hS (lv_sub hl [0, 1, 2] rfl)
    · refine lv_iconst (v := 1) hx hb dX3_night_31 (by decide) ?_
      refine lv_goto (tgt := 36) hx hb dX3_night_32 (by decide) ?_
      refine zx_put hx hb hown hts hK hX hS 0 (by decide) rfl q1021 rfl rfl rfl rfl dX3_night_36 (fun H locs hX hS => ?_)
      refine lv_aload_n hx hb dX3_night_39 rfl (lv_at hl 0 rfl) ?_
      refine zx_get hx hb hown hts hK hX 0 (by decide) q1021 rfl rfl dX3_night_40 ?_
      refine zm_topi (y := 1) (by simp [zu]) ?_
      refine lv_if_le (tgt := 48) hx hb dX3_night_43 (by decide) (fun c_10 => absurd c_10 (by decide)) (fun _ => ?_)
      refine lv_iconst (v := 0) hx hb dX3_night_46 (by decide) ?_
      have e1 : (0 : Int32) = (m_night X).1 := by first | (simp [m_night, c_1, c_3]; done) | (have h0 : ¬ mW X = 0 := (by omega); have h1 : 0 < mR X 0 + mR X 1 + mR X 2 := (by omega); simp [m_night, h0, h1]; done)
      have e2 : zu X 0 0 1 = (m_night X).2 := by first | (simp [m_night, c_1, c_3]; done) | (have h0 : ¬ mW X = 0 := (by omega); have h1 : 0 < mR X 0 + mR X 1 + mR X 2 := (by omega); simp [m_night, h0, h1]; done)
      rw [e2] at hX
      exact ze_i hx hb hr hlocks hS dX3_night_47 (Nat.le_refl _) (Nat.le_refl _) () e1 hX
theorem zn_X3_out : zN yX3_out 0 := by decide +kernel
set_option maxHeartbeats 4000000 in
theorem ct_X3_out (l : Launch) (g : zG) (A : Nat → Prop) (mo : Nat) (ma : Nat → Nat) (X : zX) (hn60 : mN X ≤ 60) (hR : MR X) : Met l yX3_out (ws_ yX3_out cX3_out 6 (some .int)) (zR 1 0 0) (zP [.ref mo] g A (zMX g A mo ma X)) (va_Qi (fun rz_ (_ : Unit) => rz_ = (m_out X).1) (fun (_ : Unit) t => zMX g A mo ma ((m_out X).2) t.heap) A) 0 0 A := by
  refine zb_met (by decide) (Nat.le_of_ble_eq_true rfl) ?_
  intro p e s m args below meth c ls hx hb hr hml hown hts hlocks hnm hK hX ha hl
  have hown : s.vm.findClass RX3 = some m.cls := hown
  have hS : va_S A s.heap s.heap [] := va_S.rf
  have hl : lv_has ls 6 [(0, .ref mo)] := hl
  refine lv_iconst (v := (-1)) hx hb dX3_out_0 (by decide) ?_
  refine lv_istore_n (lv' := [(1, .int (-1)), (0, .ref mo)]) hx hb dX3_out_1 rfl hl (by decide) rfl (fun ls hl => ?_)
  refine lv_iconst (v := 0) hx hb dX3_out_2 (by decide) ?_
  refine lv_istore_n (lv' := [(2, .int 0), (1, .int (-1)), (0, .ref mo)]) hx hb dX3_out_3 rfl hl (by decide) rfl (fun ls hl => ?_)
  refine lv_iconst (v := 0) hx hb dX3_out_4 (by decide) ?_
  refine lv_istore_n (lv' := [(3, .int 0), (2, .int 0), (1, .int (-1)), (0, .ref mo)]) hx hb dX3_out_5 rfl hl (by decide) rfl (fun ls hl => ?_)
  have L_2 : ∀ (n_1 : Nat) (r : Nat), 4 - r < n_1 → (r ≤ 3) → ∀ (H : Heap) (locs : List Loc) (ls : Array Slot), zMX g A mo ma X H → va_S A s.heap H locs → lv_has ls 6 [(3, .int (nI r)), (2, .int (nI (zpl (zo2 X r)))), (1, .int (zro (zo2 X r))), (0, .ref mo)] → W p l e (zR 1 0 0) s m args below meth c H locs 0 0 (MQ below (va_Qi (fun rz_ (_ : Unit) => rz_ = (m_out X).1) (fun (_ : Unit) t => zMX g A mo ma ((m_out X).2) t.heap) A) args s 0 0 A) (F0 m 6 ls []) := by
    intro n_1
    induction n_1 with
    | zero => intro r hm; exact absurd hm (Nat.not_lt_zero _)
    | succ n_1 ih =>
      intro r hm hr3 H locs ls hX hS hl
      have ih_3 := ih
      refine lv_iload_n hx hb dX3_out_6 rfl (lv_at hl 0 rfl) ?_
      refine lv_iconst (v := 3) hx hb dX3_out_7 (by decide) ?_
      refine zl_ge (tgt := 106) (a := r) (b := 3) hx hb (by first | decide | omega) (by first | decide | omega) dX3_out_8 (by decide) (fun c_4 => ?_) (fun c_4 => ?_)
      · obtain rfl : r = 3 := by omega
        refine lv_aload_n hx hb dX3_out_106 rfl (lv_at hl 3 rfl) ?_
        rcases hs : zo2 X 3 with _ | q
        · refine lv_iload_n hx hb dX3_out_107 rfl (lv_at hl 2 rfl) ?_
          refine zm_topi (y := (-1)) (by rw [hs]; rfl) ?_
          refine lv_iconst (v := (-1)) hx hb dX3_out_108 (by decide) ?_
          refine lv_icmp_ne (tgt := 116) hx hb dX3_out_109 (by decide) (fun c_5 => absurd (by decide) c_5) (fun _ => ?_)
          refine lv_iconst (v := 1) hx hb dX3_out_112 (by decide) ?_
          refine lv_goto (tgt := 117) hx hb dX3_out_113 (by decide) ?_
          refine zx_put hx hb hown hts hK hX hS 0 (by decide) rfl q1021 rfl rfl rfl rfl dX3_out_117 (fun H locs hX hS => ?_)
          refine lv_aload_n hx hb dX3_out_120 rfl (lv_at hl 3 rfl) ?_
          refine zx_get hx hb hown hts hK hX 0 (by decide) q1021 rfl rfl dX3_out_121 ?_
          refine zm_topi (y := 1) (by simp [zu]) ?_
          refine lv_if_le (tgt := 129) hx hb dX3_out_124 (by decide) (fun c_6 => absurd c_6 (by decide)) (fun _ => ?_)
          refine lv_iconst (v := 0) hx hb dX3_out_127 (by decide) ?_
          have e1 : (0 : Int32) = (m_out X).1 := by simp [m_out, hs]
          have e2 : zu X 0 0 1 = (m_out X).2 := by simp [m_out, hs]
          rw [e2] at hX
          exact ze_i hx hb hr hlocks hS dX3_out_128 (Nat.le_refl _) (Nat.le_refl _) () e1 hX
        · obtain ⟨hq1, hq2⟩ := zo2_ok 3 q hs
          have hq4 := (hR q.1 (by omega)).2.1
          refine lv_iload_n hx hb dX3_out_107 rfl (lv_at hl 2 rfl) ?_
          refine zm_topi (y := nI q.1) (by rw [hs]; rfl) ?_
          refine lv_iconst (v := (-1)) hx hb dX3_out_108 (by decide) ?_
          refine lv_icmp_ne (tgt := 116) hx hb dX3_out_109 (by decide) (fun _ => ?_) (fun c_0 => absurd c_0 (nI_nem1 (by omega)))
          refine lv_iconst (v := 0) hx hb dX3_out_116 (by decide) ?_
          refine zx_put hx hb hown hts hK hX hS 0 (by decide) rfl q1021 rfl rfl rfl rfl dX3_out_117 (fun H locs hX hS => ?_)
          refine lv_aload_n hx hb dX3_out_120 rfl (lv_at hl 3 rfl) ?_
          refine zx_get hx hb hown hts hK hX 0 (by decide) q1021 rfl rfl dX3_out_121 ?_
          refine zm_topi (y := 0) (by simp [zu]) ?_
          refine lv_if_le (tgt := 129) hx hb dX3_out_124 (by decide) (fun _ => ?_) (fun c_7 => absurd (by decide) c_7)
          refine lv_aload_n hx hb dX3_out_129 rfl (lv_at hl 3 rfl) ?_
          refine zx_get hx hb hown hts hK hX 12 (by decide) q1033 rfl rfl dX3_out_130 ?_
          refine lv_aload_n hx hb dX3_out_133 rfl (lv_at hl 3 rfl) ?_
          refine zx_get hx hb hown hts hK hX 32 (by decide) q1053 rfl rfl dX3_out_134 ?_
          refine lv_iconst (v := 4) hx hb dX3_out_137 (by decide) ?_
          refine lv_iload_n hx hb dX3_out_138 rfl (lv_at hl 2 rfl) ?_
          refine zm_topi (y := nI q.1) (by rw [hs]; rfl) ?_
          refine lv_imul hx hb dX3_out_139 ?_
          refine zm_topi (y := nI (4 * q.1)) (pk_mul 4 q.1) ?_
          refine lv_iload_n hx hb dX3_out_140 rfl (lv_at hl 1 rfl) ?_
          refine zm_topi (y := nI q.2) (by rw [hs]; rfl) ?_
          refine lv_iadd hx hb dX3_out_141 ?_
          refine zm_topi (y := nI (4 * q.1 + q.2)) (nI_add (4 * q.1) q.2) ?_
          refine zx_ld (i := 4 * q.1 + q.2) hx hb hK hX 32 rfl rfl (n := 12) rfl (by omega) dX3_out_142 ?_
          refine zm_topi (y := X 32 (4 * q.1 + q.2)) (by simp [zu]) ?_
          have hv2 := ((hR q.1 (by omega)).2.2 q.2 (by omega)).2
          refine zm_topi (y := nI ((X 32 (4 * q.1 + q.2)).toNatClampNeg)) (((hR q.1 (by omega)).2.2 q.2 (by omega)).1) ?_
          refine lv_iconst (v := 0) hx hb dX3_out_143 (by decide) ?_
          refine zx_stz (i := (X 32 (4 * q.1 + q.2)).toNatClampNeg) hx hb hK hX hS 12 rfl rfl (n := 60) rfl (by omega) (Or.inl rfl) dX3_out_144 (fun H locs hX hS => ?_)
          refine lv_aload_n hx hb dX3_out_145 rfl (lv_at hl 3 rfl) ?_
          refine zx_get hx hb hown hts hK hX 31 (by decide) q1052 rfl rfl dX3_out_146 ?_
          refine lv_iload_n hx hb dX3_out_149 rfl (lv_at hl 2 rfl) ?_
          refine zm_topi (y := nI q.1) (by rw [hs]; rfl) ?_
          refine zx_ld (i := q.1) hx hb hK hX 31 rfl rfl (n := 3) rfl (by omega) dX3_out_150 ?_
          refine zm_topi (y := X 31 q.1) (by simp [zu]) ?_
          refine zm_topi (y := nI (mR X q.1)) ((hR q.1 (by omega)).1) ?_
          refine lv_iconst (v := 1) hx hb dX3_out_151 (by decide) ?_
          refine lv_isub hx hb dX3_out_152 ?_
          refine lv_iload_n hx hb dX3_out_153 rfl (lv_at hl 1 rfl) ?_
          refine zm_topi (y := nI q.2) (by rw [hs]; rfl) ?_
          refine lv_isub hx hb dX3_out_154 ?_
          refine lv_istore_n (lv' := [(3, .int (((nI (mR X q.1)) - 1) - (nI q.2))), (2, .int (nI (zpl (zo2 X 3)))), (1, .int (zro (zo2 X 3))), (0, .ref mo)]) hx hb dX3_out_155 rfl hl (by decide) rfl (fun ls hl => ?_)
          refine lv_iload_n hx hb dX3_out_156 rfl (lv_at hl 1 rfl) ?_
          refine zm_topi (y := nI q.2) (by rw [hs]; rfl) ?_
          refine lv_istore (lv' := [(4, .int (nI q.2)), (3, .int (((nI (mR X q.1)) - 1) - (nI q.2))), (2, .int (nI (zpl (zo2 X 3)))), (1, .int (zro (zo2 X 3))), (0, .ref mo)]) hx hb dX3_out_157 hl (by decide) rfl (fun ls hl => ?_)
          have L_9 : ∀ (n_8 : Nat) (j : Nat), mR X q.1 - j < n_8 → (q.2 + j + 1 ≤ mR X q.1) → ∀ (H : Heap) (locs : List Loc) (ls : Array Slot), zMX g A mo ma (zsh (zu (zu X 0 0 0) 12 (X 32 (4 * q.1 + q.2)).toNatClampNeg 0) q.1 q.2 j) H → va_S A s.heap H locs → lv_has ls 6 [(4, .int (nI (q.2 + j))), (3, .int (((nI (mR X q.1)) - 1) - (nI q.2))), (2, .int (nI (zpl (zo2 X 3)))), (1, .int (zro (zo2 X 3))), (0, .ref mo)] → W p l e (zR 1 0 0) s m args below meth c H locs 0 0 (MQ below (va_Qi (fun rz_ (_ : Unit) => rz_ = (m_out X).1) (fun (_ : Unit) t => zMX g A mo ma ((m_out X).2) t.heap) A) args s 0 0 A) (F0 m 159 ls []) := by
            intro n_8
            induction n_8 with
            | zero => intro j hm; exact absurd hm (Nat.not_lt_zero _)
            | succ n_8 ih =>
              intro j hm hj H locs ls hX hS hl
              have ih_10 := ih
              refine lv_iload hx hb dX3_out_159 (lv_at hl 0 rfl) ?_
              refine lv_iconst (v := 1) hx hb dX3_out_161 (by decide) ?_
              refine lv_iadd hx hb dX3_out_162 ?_
              refine zm_topi (y := nI (q.2 + j + 1)) (nI_1 (q.2 + j)) ?_
              refine lv_aload_n hx hb dX3_out_163 rfl (lv_at hl 4 rfl) ?_
              refine zx_get hx hb hown hts hK hX 31 (by decide) q1052 rfl rfl dX3_out_164 ?_
              refine lv_iload_n hx hb dX3_out_167 rfl (lv_at hl 3 rfl) ?_
              refine zm_topi (y := nI q.1) (by rw [hs]; rfl) ?_
              refine zx_ld (i := q.1) hx hb hK hX 31 rfl rfl (n := 3) rfl (by omega) dX3_out_168 ?_
              refine zm_topi (y := nI (mR X q.1)) ((by rw [zsh_cg _ _ _ (by decide)]; simp [zu]; exact (hR _ (by omega)).1)) ?_
              refine zl_ge (tgt := 202) (a := q.2 + j + 1) (b := mR X q.1) hx hb (by first | decide | omega) (by first | decide | omega) dX3_out_169 (by decide) (fun c_11 => ?_) (fun c_11 => ?_)
              · refine lv_aload_n hx hb dX3_out_202 rfl (lv_at hl 4 rfl) ?_
                refine zx_get hx hb hown hts hK hX 31 (by decide) q1052 rfl rfl dX3_out_203 ?_
                refine lv_iload_n hx hb dX3_out_206 rfl (lv_at hl 3 rfl) ?_
                refine zm_topi (y := nI q.1) (by rw [hs]; rfl) ?_
                refine lv_dup2_11 hx hb dX3_out_207 rfl rfl ?_
                refine zx_ld (i := q.1) hx hb hK hX 31 rfl rfl (n := 3) rfl (by omega) dX3_out_208 ?_
                refine zm_topi (y := nI (mR X q.1)) ((by rw [zsh_cg _ _ _ (by decide)]; simp [zu]; exact (hR _ (by omega)).1)) ?_
                refine lv_iconst (v := 1) hx hb dX3_out_209 (by decide) ?_
                refine lv_isub hx hb dX3_out_210 ?_
                refine zx_st (i := q.1) hx hb hK hX hS 31 rfl rfl (n := 3) rfl (by omega) dX3_out_211 (fun H locs hX hS => ?_)
                refine lv_iload_n hx hb dX3_out_212 rfl (lv_at hl 1 rfl) ?_
                have e1 : (((nI (mR X q.1)) - 1) - (nI q.2) : Int32) = (m_out X).1 := by have hj9 : j = mR X q.1 - 1 - q.2 := (by omega); subst hj9; simp [m_out, hs]; first | done | rfl
                have e2 : zu (zsh (zu (zu X 0 0 0) 12 (X 32 (4 * q.1 + q.2)).toNatClampNeg 0) q.1 q.2 j) 31 q.1 ((nI (mR X q.1)) - 1) = (m_out X).2 := by have hj9 : j = mR X q.1 - 1 - q.2 := (by omega); subst hj9; simp [m_out, hs]; first | done | rfl
                rw [e2] at hX
                exact ze_i hx hb hr hlocks hS dX3_out_213 (Nat.le_refl _) (Nat.le_refl _) () e1 hX
              · refine lv_aload_n hx hb dX3_out_172 rfl (lv_at hl 4 rfl) ?_
                refine zx_get hx hb hown hts hK hX 32 (by decide) q1053 rfl rfl dX3_out_173 ?_
                refine lv_iconst (v := 4) hx hb dX3_out_176 (by decide) ?_
                refine lv_iload_n hx hb dX3_out_177 rfl (lv_at hl 3 rfl) ?_
                refine zm_topi (y := nI q.1) (by rw [hs]; rfl) ?_
                refine lv_imul hx hb dX3_out_178 ?_
                refine zm_topi (y := nI (4 * q.1)) (pk_mul 4 q.1) ?_
                refine lv_iload hx hb dX3_out_179 (lv_at hl 0 rfl) ?_
                refine lv_iadd hx hb dX3_out_181 ?_
                refine zm_topi (y := nI (4 * q.1 + (q.2 + j))) (nI_add (4 * q.1) (q.2 + j)) ?_
                refine lv_aload_n hx hb dX3_out_182 rfl (lv_at hl 4 rfl) ?_
                refine zx_get hx hb hown hts hK hX 32 (by decide) q1053 rfl rfl dX3_out_183 ?_
                refine lv_iconst (v := 4) hx hb dX3_out_186 (by decide) ?_
                refine lv_iload_n hx hb dX3_out_187 rfl (lv_at hl 3 rfl) ?_
                refine zm_topi (y := nI q.1) (by rw [hs]; rfl) ?_
                refine lv_imul hx hb dX3_out_188 ?_
                refine zm_topi (y := nI (4 * q.1)) (pk_mul 4 q.1) ?_
                refine lv_iload hx hb dX3_out_189 (lv_at hl 0 rfl) ?_
                refine lv_iadd hx hb dX3_out_191 ?_
                refine zm_topi (y := nI (4 * q.1 + (q.2 + j))) (nI_add (4 * q.1) (q.2 + j)) ?_
                refine lv_iconst (v := 1) hx hb dX3_out_192 (by decide) ?_
                refine lv_iadd hx hb dX3_out_193 ?_
                refine zm_topi (y := nI (4 * q.1 + (q.2 + j) + 1)) (nI_1 (4 * q.1 + (q.2 + j))) ?_
                refine zx_ld (i := 4 * q.1 + (q.2 + j) + 1) hx hb hK hX 32 rfl rfl (n := 12) rfl (by omega) dX3_out_194 ?_
                refine zx_st (i := 4 * q.1 + (q.2 + j)) hx hb hK hX hS 32 rfl rfl (n := 12) rfl (by omega) dX3_out_195 (fun H locs hX hS => ?_)
                have hX : zMX g A mo ma (zsh (zu (zu X 0 0 0) 12 (X 32 (4 * q.1 + q.2)).toNatClampNeg 0) q.1 q.2 (j + 1)) H := hX
                refine lv_iinc (v := nI (q.2 + j + 1)) (lv' := [(4, .int (nI (q.2 + j + 1))), (3, .int (((nI (mR X q.1)) - 1) - (nI q.2))), (2, .int (nI (zpl (zo2 X 3)))), (1, .int (zro (zo2 X 3))), (0, .ref mo)]) hx hb dX3_out_196 hl (k := 0) rfl (nI_1 (q.2 + j)) (by decide) rfl (fun ls hl => ?_)
                refine lv_goto (tgt := 159) hx hb dX3_out_199 (by decide) ?_
                exact ih_10 (j + 1) (by omega) (by omega) _ _ _ hX hS (lv_sub hl [0, 1, 2, 3, 4] rfl)
          exact L_9 ((mR X q.1 - 0) + 1) 0 (Nat.lt_succ_self _) (by omega) _ _ _ hX hS (lv_sub hl [0, 1, 2, 3, 4] rfl)
      · have hR4 := (hR r (by omega)).2.1
        refine lv_iconst (v := 0) hx hb dX3_out_11 (by decide) ?_
        refine lv_istore (lv' := [(4, .int 0), (3, .int (nI r)), (2, .int (nI (zpl (zo2 X r)))), (1, .int (zro (zo2 X r))), (0, .ref mo)]) hx hb dX3_out_12 hl (by decide) rfl (fun ls hl => ?_)
        have L_13 : ∀ (n_12 : Nat) (k : Nat), mR X r + 1 - k < n_12 → (k ≤ mR X r) → ∀ (H : Heap) (locs : List Loc) (ls : Array Slot), zMX g A mo ma X H → va_S A s.heap H locs → lv_has ls 6 [(4, .int (nI k)), (3, .int (nI r)), (2, .int (nI (zpl (zo1 X r (zo2 X r) k)))), (1, .int (zro (zo1 X r (zo2 X r) k))), (0, .ref mo)] → W p l e (zR 1 0 0) s m args below meth c H locs 0 0 (MQ below (va_Qi (fun rz_ (_ : Unit) => rz_ = (m_out X).1) (fun (_ : Unit) t => zMX g A mo ma ((m_out X).2) t.heap) A) args s 0 0 A) (F0 m 14 ls []) := by
          intro n_12
          induction n_12 with
          | zero => intro k hm; exact absurd hm (Nat.not_lt_zero _)
          | succ n_12 ih =>
            intro k hm hk H locs ls hX hS hl
            have ih_14 := ih
            refine lv_iload hx hb dX3_out_14 (lv_at hl 0 rfl) ?_
            refine lv_aload_n hx hb dX3_out_16 rfl (lv_at hl 4 rfl) ?_
            refine zx_get hx hb hown hts hK hX 31 (by decide) q1052 rfl rfl dX3_out_17 ?_
            refine lv_iload_n hx hb dX3_out_20 rfl (lv_at hl 1 rfl) ?_
            refine zx_ld (i := r) hx hb hK hX 31 rfl rfl (n := 3) rfl (by omega) dX3_out_21 ?_
            refine zm_topi (y := nI (mR X r)) ((hR r (by omega)).1) ?_
            refine zl_ge (tgt := 100) (a := k) (b := mR X r) hx hb (by first | decide | omega) (by first | decide | omega) dX3_out_22 (by decide) (fun c_15 => ?_) (fun c_15 => ?_)
            · obtain rfl : k = mR X r := by omega
              refine lv_iinc (v := nI (r + 1)) (lv' := [(3, .int (nI (r + 1))), (4, .int (nI (mR X r))), (2, .int (nI (zpl (zo1 X r (zo2 X r) (mR X r))))), (1, .int (zro (zo1 X r (zo2 X r) (mR X r)))), (0, .ref mo)]) hx hb dX3_out_100 hl (k := 1) rfl (nI_1 r) (by decide) rfl (fun ls hl => ?_)
              refine lv_goto (tgt := 6) hx hb dX3_out_103 (by decide) ?_
              exact ih_3 (r + 1) (by omega) (by omega) _ _ _ hX hS (lv_sub hl [0, 2, 3, 4] rfl)
            · rcases hs : zo1 X r (zo2 X r) k with _ | q
              · refine lv_iload_n hx hb dX3_out_25 rfl (lv_at hl 3 rfl) ?_
                refine zm_topi (y := (-1)) (by rw [hs]; rfl) ?_
                refine lv_iconst (v := (-1)) hx hb dX3_out_26 (by decide) ?_
                refine lv_icmp_eq (tgt := 64) hx hb dX3_out_27 (by decide) (fun _ => ?_) (fun c_16 => absurd (by decide) c_16)
                refine lv_iconst (v := 1) hx hb dX3_out_64 (by decide) ?_
                refine lv_goto (tgt := 69) hx hb dX3_out_65 (by decide) ?_
                refine lv_istore (lv' := [(5, .int 1), (4, .int (nI k)), (3, .int (nI r)), (2, .int (nI (zpl (zo1 X r (zo2 X r) k)))), (1, .int (zro (zo1 X r (zo2 X r) k))), (0, .ref mo)]) hx hb dX3_out_69 hl (by decide) rfl (fun ls hl => ?_)
                refine lv_iload hx hb dX3_out_71 (lv_at hl 0 rfl) ?_
                refine lv_if_eq (tgt := 81) hx hb dX3_out_73 (by decide) (fun c_17 => absurd c_17 (by decide)) (fun _ => ?_)
                refine lv_iload hx hb dX3_out_76 (lv_at hl 1 rfl) ?_
                refine lv_goto (tgt := 82) hx hb dX3_out_78 (by decide) ?_
                refine zm_topi (y := nI (zpl (zo1 X r (zo2 X r) (k + 1)))) (by simp [zo1, zos, mTm, zro, zpl, hs]) ?_
                refine lv_istore_n (lv' := [(2, .int (nI (zpl (zo1 X r (zo2 X r) (k + 1))))), (5, .int 1), (4, .int (nI k)), (3, .int (nI r)), (1, .int (zro (zo1 X r (zo2 X r) k))), (0, .ref mo)]) hx hb dX3_out_82 rfl hl (by decide) rfl (fun ls hl => ?_)
                refine lv_iload hx hb dX3_out_83 (lv_at hl 1 rfl) ?_
                refine lv_if_eq (tgt := 92) hx hb dX3_out_85 (by decide) (fun c_18 => absurd c_18 (by decide)) (fun _ => ?_)
                refine lv_iload_n hx hb dX3_out_88 rfl (lv_at hl 3 rfl) ?_
                refine lv_goto (tgt := 93) hx hb dX3_out_89 (by decide) ?_
                refine zm_topi (y := zro (zo1 X r (zo2 X r) (k + 1))) (by simp [zo1, zos, mTm, zro, zpl, hs]) ?_
                refine lv_istore_n (lv' := [(1, .int (zro (zo1 X r (zo2 X r) (k + 1)))), (2, .int (nI (zpl (zo1 X r (zo2 X r) (k + 1))))), (5, .int 1), (4, .int (nI k)), (3, .int (nI r)), (0, .ref mo)]) hx hb dX3_out_93 rfl hl (by decide) rfl (fun ls hl => ?_)
                refine lv_iinc (v := nI (k + 1)) (lv' := [(4, .int (nI (k + 1))), (1, .int (zro (zo1 X r (zo2 X r) (k + 1)))), (2, .int (nI (zpl (zo1 X r (zo2 X r) (k + 1))))), (5, .int 1), (3, .int (nI r)), (0, .ref mo)]) hx hb dX3_out_94 hl (k := 3) rfl (nI_1 k) (by decide) rfl (fun ls hl => ?_)
                refine lv_goto (tgt := 14) hx hb dX3_out_97 (by decide) ?_
                exact ih_14 (k + 1) (by omega) (by omega) _ _ _ hX hS (lv_sub hl [0, 4, 2, 1, 5] rfl)
              · obtain ⟨hq1, hq2⟩ := zo1_ok (X := X) (r := r) (s := zo2 X r) (fun z hz => ⟨Nat.le_of_lt (zo2_ok r z hz).1, (zo2_ok r z hz).2⟩) k (by omega) q hs
                have hq4 := (hR q.1 (by omega)).2.1
                refine lv_iload_n hx hb dX3_out_25 rfl (lv_at hl 3 rfl) ?_
                refine zm_topi (y := nI q.1) (by rw [hs]; rfl) ?_
                refine lv_iconst (v := (-1)) hx hb dX3_out_26 (by decide) ?_
                refine lv_icmp_eq (tgt := 64) hx hb dX3_out_27 (by decide) (fun c_0 => absurd c_0 (nI_nem1 (by omega))) (fun _ => ?_)
                refine lv_aload_n hx hb dX3_out_30 rfl (lv_at hl 4 rfl) ?_
                refine zx_get hx hb hown hts hK hX 28 (by decide) q1049 rfl rfl dX3_out_31 ?_
                refine lv_aload_n hx hb dX3_out_34 rfl (lv_at hl 4 rfl) ?_
                refine zx_get hx hb hown hts hK hX 32 (by decide) q1053 rfl rfl dX3_out_35 ?_
                refine lv_iconst (v := 4) hx hb dX3_out_38 (by decide) ?_
                refine lv_iload_n hx hb dX3_out_39 rfl (lv_at hl 1 rfl) ?_
                refine lv_imul hx hb dX3_out_40 ?_
                refine zm_topi (y := nI (4 * r)) (pk_mul 4 r) ?_
                refine lv_iload hx hb dX3_out_41 (lv_at hl 0 rfl) ?_
                refine lv_iadd hx hb dX3_out_43 ?_
                refine zm_topi (y := nI (4 * r + k)) (nI_add (4 * r) k) ?_
                refine zx_ld (i := 4 * r + k) hx hb hK hX 32 rfl rfl (n := 12) rfl (by omega) dX3_out_44 ?_
                have hv1 := ((hR r (by omega)).2.2 k (by omega)).2
                refine zm_topi (y := nI ((X 32 (4 * r + k)).toNatClampNeg)) (((hR r (by omega)).2.2 k (by omega)).1) ?_
                refine zx_ld (i := (X 32 (4 * r + k)).toNatClampNeg) hx hb hK hX 28 rfl rfl (n := 60) rfl (by omega) dX3_out_45 ?_
                refine lv_aload_n hx hb dX3_out_46 rfl (lv_at hl 4 rfl) ?_
                refine zx_get hx hb hown hts hK hX 28 (by decide) q1049 rfl rfl dX3_out_47 ?_
                refine lv_aload_n hx hb dX3_out_50 rfl (lv_at hl 4 rfl) ?_
                refine zx_get hx hb hown hts hK hX 32 (by decide) q1053 rfl rfl dX3_out_51 ?_
                refine lv_iconst (v := 4) hx hb dX3_out_54 (by decide) ?_
                refine lv_iload_n hx hb dX3_out_55 rfl (lv_at hl 3 rfl) ?_
                refine zm_topi (y := nI q.1) (by rw [hs]; rfl) ?_
                refine lv_imul hx hb dX3_out_56 ?_
                refine zm_topi (y := nI (4 * q.1)) (pk_mul 4 q.1) ?_
                refine lv_iload_n hx hb dX3_out_57 rfl (lv_at hl 2 rfl) ?_
                refine zm_topi (y := nI q.2) (by rw [hs]; rfl) ?_
                refine lv_iadd hx hb dX3_out_58 ?_
                refine zm_topi (y := nI (4 * q.1 + q.2)) (nI_add (4 * q.1) q.2) ?_
                refine zx_ld (i := 4 * q.1 + q.2) hx hb hK hX 32 rfl rfl (n := 12) rfl (by omega) dX3_out_59 ?_
                have hv2 := ((hR q.1 (by omega)).2.2 q.2 (by omega)).2
                refine zm_topi (y := nI ((X 32 (4 * q.1 + q.2)).toNatClampNeg)) (((hR q.1 (by omega)).2.2 q.2 (by omega)).1) ?_
                refine zx_ld (i := (X 32 (4 * q.1 + q.2)).toNatClampNeg) hx hb hK hX 28 rfl rfl (n := 60) rfl (by omega) dX3_out_60 ?_
                refine lv_icmp_ge (tgt := 68) hx hb dX3_out_61 (by decide) (fun c_19 => ?_) (fun c_19 => ?_)
                · refine lv_iconst (v := 0) hx hb dX3_out_68 (by decide) ?_
                  refine lv_istore (lv' := [(5, .int 0), (4, .int (nI k)), (3, .int (nI r)), (2, .int (nI (zpl (zo1 X r (zo2 X r) k)))), (1, .int (zro (zo1 X r (zo2 X r) k))), (0, .ref mo)]) hx hb dX3_out_69 hl (by decide) rfl (fun ls hl => ?_)
                  refine lv_iload hx hb dX3_out_71 (lv_at hl 0 rfl) ?_
                  refine lv_if_eq (tgt := 81) hx hb dX3_out_73 (by decide) (fun _ => ?_) (fun c_20 => absurd (by decide) c_20)
                  refine lv_iload_n hx hb dX3_out_81 rfl (lv_at hl 3 rfl) ?_
                  refine zm_topi (y := nI q.2) (by rw [hs]; rfl) ?_
                  refine zm_topi (y := nI (zpl (zo1 X r (zo2 X r) (k + 1)))) (by simp [zo1, zos, mTm, zro, zpl, hs, c_19]) ?_
                  refine lv_istore_n (lv' := [(2, .int (nI (zpl (zo1 X r (zo2 X r) (k + 1))))), (5, .int 0), (4, .int (nI k)), (3, .int (nI r)), (1, .int (zro (zo1 X r (zo2 X r) k))), (0, .ref mo)]) hx hb dX3_out_82 rfl hl (by decide) rfl (fun ls hl => ?_)
                  refine lv_iload hx hb dX3_out_83 (lv_at hl 1 rfl) ?_
                  refine lv_if_eq (tgt := 92) hx hb dX3_out_85 (by decide) (fun _ => ?_) (fun c_21 => absurd (by decide) c_21)
                  refine lv_iload_n hx hb dX3_out_92 rfl (lv_at hl 4 rfl) ?_
                  refine zm_topi (y := nI q.1) (by rw [hs]; rfl) ?_
                  refine zm_topi (y := zro (zo1 X r (zo2 X r) (k + 1))) (by simp [zo1, zos, mTm, zro, zpl, hs, c_19]) ?_
                  refine lv_istore_n (lv' := [(1, .int (zro (zo1 X r (zo2 X r) (k + 1)))), (2, .int (nI (zpl (zo1 X r (zo2 X r) (k + 1))))), (5, .int 0), (4, .int (nI k)), (3, .int (nI r)), (0, .ref mo)]) hx hb dX3_out_93 rfl hl (by decide) rfl (fun ls hl => ?_)
                  refine lv_iinc (v := nI (k + 1)) (lv' := [(4, .int (nI (k + 1))), (1, .int (zro (zo1 X r (zo2 X r) (k + 1)))), (2, .int (nI (zpl (zo1 X r (zo2 X r) (k + 1))))), (5, .int 0), (3, .int (nI r)), (0, .ref mo)]) hx hb dX3_out_94 hl (k := 3) rfl (nI_1 k) (by decide) rfl (fun ls hl => ?_)
                  refine lv_goto (tgt := 14) hx hb dX3_out_97 (by decide) ?_
                  exact ih_14 (k + 1) (by omega) (by omega) _ _ _ hX hS (lv_sub hl [0, 4, 2, 1, 5] rfl)
                · refine lv_iconst (v := 1) hx hb dX3_out_64 (by decide) ?_
                  refine lv_goto (tgt := 69) hx hb dX3_out_65 (by decide) ?_
                  refine lv_istore (lv' := [(5, .int 1), (4, .int (nI k)), (3, .int (nI r)), (2, .int (nI (zpl (zo1 X r (zo2 X r) k)))), (1, .int (zro (zo1 X r (zo2 X r) k))), (0, .ref mo)]) hx hb dX3_out_69 hl (by decide) rfl (fun ls hl => ?_)
                  refine lv_iload hx hb dX3_out_71 (lv_at hl 0 rfl) ?_
                  refine lv_if_eq (tgt := 81) hx hb dX3_out_73 (by decide) (fun c_22 => absurd c_22 (by decide)) (fun _ => ?_)
                  refine lv_iload hx hb dX3_out_76 (lv_at hl 1 rfl) ?_
                  refine lv_goto (tgt := 82) hx hb dX3_out_78 (by decide) ?_
                  refine zm_topi (y := nI (zpl (zo1 X r (zo2 X r) (k + 1)))) (by simp [zo1, zos, mTm, zro, zpl, hs, c_19]) ?_
                  refine lv_istore_n (lv' := [(2, .int (nI (zpl (zo1 X r (zo2 X r) (k + 1))))), (5, .int 1), (4, .int (nI k)), (3, .int (nI r)), (1, .int (zro (zo1 X r (zo2 X r) k))), (0, .ref mo)]) hx hb dX3_out_82 rfl hl (by decide) rfl (fun ls hl => ?_)
                  refine lv_iload hx hb dX3_out_83 (lv_at hl 1 rfl) ?_
                  refine lv_if_eq (tgt := 92) hx hb dX3_out_85 (by decide) (fun c_23 => absurd c_23 (by decide)) (fun _ => ?_)
                  refine lv_iload_n hx hb dX3_out_88 rfl (lv_at hl 3 rfl) ?_
                  refine lv_goto (tgt := 93) hx hb dX3_out_89 (by decide) ?_
                  refine zm_topi (y := zro (zo1 X r (zo2 X r) (k + 1))) (by simp [zo1, zos, mTm, zro, zpl, hs, c_19]) ?_
                  refine lv_istore_n (lv' := [(1, .int (zro (zo1 X r (zo2 X r) (k + 1)))), (2, .int (nI (zpl (zo1 X r (zo2 X r) (k + 1))))), (5, .int 1), (4, .int (nI k)), (3, .int (nI r)), (0, .ref mo)]) hx hb dX3_out_93 rfl hl (by decide) rfl (fun ls hl => ?_)
                  refine lv_iinc (v := nI (k + 1)) (lv' := [(4, .int (nI (k + 1))), (1, .int (zro (zo1 X r (zo2 X r) (k + 1)))), (2, .int (nI (zpl (zo1 X r (zo2 X r) (k + 1))))), (5, .int 1), (3, .int (nI r)), (0, .ref mo)]) hx hb dX3_out_94 hl (k := 3) rfl (nI_1 k) (by decide) rfl (fun ls hl => ?_)
                  refine lv_goto (tgt := 14) hx hb dX3_out_97 (by decide) ?_
                  exact ih_14 (k + 1) (by omega) (by omega) _ _ _ hX hS (lv_sub hl [0, 4, 2, 1, 5] rfl)
        exact L_13 ((mR X r + 1 - 0) + 1) 0 (Nat.lt_succ_self _) (by omega) _ _ _ hX hS (lv_sub hl [0, 1, 2, 3, 4] rfl)
  exact L_2 ((4 - 0) + 1) 0 (Nat.lt_succ_self _) (by omega) _ _ _ hX hS (lv_sub hl [0, 1, 2, 3] rfl)
