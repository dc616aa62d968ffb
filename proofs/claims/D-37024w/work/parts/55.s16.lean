theorem zn_X1_look : zN yX1_look 2 := by decide +kernel
set_option maxHeartbeats 4000000 in
theorem ct_X1_look (l : Launch) (hl0 : l.stackTraces = false) (g : zG) (A : Nat → Prop) (S : zS) (X : zX) (T : zT) (hY : zSy S g X T) (hI : MH X) (hz12 : ∀ p, X 12 p = 0 ∨ X 12 p = 1) (hz10 : ∀ p, X 10 p = 0 ∨ X 10 p = 1) (x : Int32) (b : Bool) : vx_Met l yX1_look (ws_ yX1_look cX1_look 4 (some .int)) (zR 8 2 12) (zP [.ref (S.A 0), .int x, .int (zb b)] g A (zTH g A T)) (va_Qi (fun rz_ (T1 : zT) => (rz_ = (m_look X x b).1 ∧ (m_look X x b).2 0 0 = 0) ∧ zSy S g (m_look X x b).2 T1) (fun T1 t => zTH g A T1 t.heap) A) (zXC (fun E => (E = xIO ∧ (m_look X x b).2 0 0 = 1) ∨ (E = xIS ∧ (m_look X x b).2 0 0 = 2)) g A T) 2 12 A := by
  refine zb_xmet (by decide) (Nat.le_of_ble_eq_true rfl) ?_
  intro p e s m args below meth c ls hx hb hr hml hown hts hlocks hnm hK hT ha_ hl hout
  have hown : s.vm.findClass RX1 = some m.cls := hown
  have hS : va_S A s.heap s.heap [] := va_S.rf
  have hl : lv_has ls 4 [(0, .ref (S.A 0)), (1, .int x), (2, .int (zb b))] := hl
  refine lv_aload_n hx hb dX1_look_0 rfl (lv_at hl 0 rfl) ?_
  refine zt_get hx hb hts in_X1 hown hK.1 hT hY.w rfl 0 (by decide) (hts _ q177) (fun _ h => h) rfl dX1_look_1 ?_
  refine lv_iload_n hx hb dX1_look_4 rfl (lv_at hl 1 rfl) ?_
  refine zxc_q (zxr_V (As := [.int x]) (rest := []) ⟨hx, hb, hml, hown, hts⟩ (ct_X2_need l hl0 g A S X _ hY hI x) zn_X2_need (lw_V q514 q515 q516 q40 q517) rfl (by decide) (by decide) hK (fun _ h => h) hS hT (zt_recv hK.1 hT hY.rk rfl) rfl hl.1 (Nat.le_of_ble_eq_true rfl) dX1_look_5 ⟨by show _ + 1 ≤ _; omega, by show _ + 6 ≤ _; omega⟩) hS hout hlocks (fun E hE => by obtain ⟨rfl, h0⟩ := hE; exact Or.inl ⟨rfl, by unfold m_look; simp [zu, h0]⟩) (by show _ + 1 ≤ 2; omega) (by show _ + 6 ≤ 12; omega) (fun r _ H locs hr_1 hT _ _ hS => ?_)
  obtain ⟨rfl, hm_2⟩ := hr_1
  obtain ⟨hq_3, hq_4⟩ := mIs_p hI hm_2
  refine zm_top (v' := .ref (S.pa x.toNatClampNeg)) rfl ?_
  refine va_castS hx hb hown (hts _ q356) (hK.1.1 3 _ rfl).2 (zt_recv hK.1 hT (hY.p hq_4) (r := zCl[3]) rfl) dX1_look_8 ?_
  refine lv_astore_n (lv' := [(3, .ref (S.pa x.toNatClampNeg)), (0, .ref (S.A 0)), (1, .int x), (2, .int (zb b))]) hx hb dX1_look_11 rfl hl (by decide) rfl (fun ls hl => ?_)
  refine lv_aload_n hx hb dX1_look_12 rfl (lv_at hl 0 rfl) ?_
  refine zt_getN hx hb hts in_X4 hown hK.1 hT (hY.p hq_4) rfl 6 (by decide) (va_Nw.use (A := args) rfl (hK.2.1.1 _ _ _ _ _ _ q395)) (fun _ h => h) rfl dX1_look_13 ?_
  refine zl_ifne (tgt := 41) hx hb dX1_look_16 (by decide) (fun c_5 => ?_) (fun c_5 => ?_)
  · refine lv_iconst (v := 0) hx hb dX1_look_41 (by decide) ?_
    refine zm_topi (y := zb false) rfl ?_
    refine zxc_v (zxr_S (As := [.int (zb false)]) (rest := []) ⟨hx, hb, hml, hown, hts⟩ (ct_X1_needState l hl0 g A _ false) zn_X1_needState (lw_S q338 q339 q39 q340) (by decide) (by decide) hK (fun _ h => h) hS hT rfl hl.1 (Nat.le_of_ble_eq_true rfl) dX1_look_42 ⟨by show _ + 1 ≤ _; omega, by show _ + 6 ≤ _; omega⟩) hS hout hlocks (fun E hE => by obtain ⟨rfl, h0⟩ := hE; exact Or.inr (⟨rfl, by unfold m_look; first | exact absurd h0 (by decide) | (simp [zu, h0, hm_2, of_decide_eq_true c_5]; done) | (fail)⟩)) (by show _ + 1 ≤ 2; omega) (by show _ + 6 ≤ 12; omega) (fun _ H locs hx_6 hT _ _ hS => ?_)
    cases hx_6
  · refine lv_aload_n hx hb dX1_look_19 rfl (lv_at hl 0 rfl) ?_
    refine zc_i (zr_V (As := []) (rest := []) ⟨hx, hb, hml, hown, hts⟩ (ct_X4_isBound l g A S X _ hY hI x.toNatClampNeg hq_4 hz12) zn_X4_isBound (lw_V q547 q548 q549 q54 q550) rfl (by decide) (by decide) hK (fun _ h => h) hS hT (zt_recv hK.1 hT (hY.p hq_4) rfl) rfl hl.1 (Nat.le_of_ble_eq_true rfl) dX1_look_20 ⟨by show _ + 0 ≤ _; omega, by show _ + 0 ≤ _; omega⟩) hS (fun _ h => h) (fun r _ H locs hr_7 hT _ _ hS => ?_)
    subst hr_7
    refine lv_if_ne (tgt := 41) hx hb dX1_look_23 (by decide) (fun c_8 => ?_) (fun c_8 => ?_)
    · refine lv_iconst (v := 0) hx hb dX1_look_41 (by decide) ?_
      refine zm_topi (y := zb false) rfl ?_
      refine zxc_v (zxr_S (As := [.int (zb false)]) (rest := []) ⟨hx, hb, hml, hown, hts⟩ (ct_X1_needState l hl0 g A _ false) zn_X1_needState (lw_S q338 q339 q39 q340) (by decide) (by decide) hK (fun _ h => h) hS hT rfl hl.1 (Nat.le_of_ble_eq_true rfl) dX1_look_42 ⟨by show _ + 1 ≤ _; omega, by show _ + 6 ≤ _; omega⟩) hS hout hlocks (fun E hE => by obtain ⟨rfl, h0⟩ := hE; exact Or.inr (⟨rfl, by unfold m_look; first | exact absurd h0 (by decide) | (simp [zu, h0, hm_2, of_decide_eq_false c_5, c_8]; done) | (fail)⟩)) (by show _ + 1 ≤ 2; omega) (by show _ + 6 ≤ 12; omega) (fun _ H locs hx_9 hT _ _ hS => ?_)
      cases hx_9
    · refine lv_iload_n hx hb dX1_look_26 rfl (lv_at hl 3 rfl) ?_
      refine zl_ifeq (tgt := 37) hx hb dX1_look_27 (by decide) (fun c_10 => ?_) (fun c_10 => ?_)
      · refine lv_iconst (v := 1) hx hb dX1_look_37 (by decide) ?_
        refine lv_goto (tgt := 42) hx hb dX1_look_38 (by decide) ?_
        refine zm_topi (y := zb true) rfl ?_
        refine zxc_v (zxr_S (As := [.int (zb true)]) (rest := []) ⟨hx, hb, hml, hown, hts⟩ (ct_X1_needState l hl0 g A _ true) zn_X1_needState (lw_S q338 q339 q39 q340) (by decide) (by decide) hK (fun _ h => h) hS hT rfl hl.1 (Nat.le_of_ble_eq_true rfl) dX1_look_42 ⟨by show _ + 1 ≤ _; omega, by show _ + 6 ≤ _; omega⟩) hS hout hlocks (fun E hE => by obtain ⟨rfl, h0⟩ := hE; exact Or.inr (⟨rfl, by unfold m_look; first | exact absurd h0 (by decide) | (simp [zu, h0, hm_2, of_decide_eq_false c_5, c_8, c_10]; done) | (fail)⟩)) (by show _ + 1 ≤ 2; omega) (by show _ + 6 ≤ 12; omega) (fun _ H locs hx_11 hT _ _ hS => ?_)
        refine lv_aload_n hx hb dX1_look_45 rfl (lv_at hl 0 rfl) ?_
        refine zt_getN hx hb hts in_X4 hown hK.1 hT (hY.p hq_4) rfl 12 (by decide) (va_Nw.use (A := args) rfl (hK.2.1.1 _ _ _ _ _ _ q406)) (fun _ h => h) rfl dX1_look_46 ?_
        refine lv_iload_n hx hb dX1_look_49 rfl (lv_at hl 3 rfl) ?_
        refine zl_ifeq (tgt := 57) hx hb dX1_look_50 (by decide) (fun _ => ?_) (fun c_12 => by rw [c_10] at c_12; cases c_12)
        refine lv_bipush (v := 10) hx hb dX1_look_57 (by decide) ?_
        refine lv_icmp_lt (tgt := 71) hx hb dX1_look_59 (by decide) (fun c_13 => ?_) (fun c_13 => ?_)
        · refine lv_aload_n hx hb dX1_look_71 rfl (lv_at hl 0 rfl) ?_
          refine lv_dup hx hb dX1_look_72 rfl ?_
          refine zt_getN hx hb hts in_X4 hown hK.1 hT (hY.p hq_4) rfl 11 (by decide) (va_Nw.use (A := args) rfl (hK.2.1.1 _ _ _ _ _ _ q403)) (fun _ h => h) rfl dX1_look_73 ?_
          refine lv_iload_n hx hb dX1_look_76 rfl (lv_at hl 3 rfl) ?_
          refine zl_ifne (tgt := 84) hx hb dX1_look_77 (by decide) (fun c_14 => by rw [c_10] at c_14; cases c_14) (fun _ => ?_)
          refine lv_iconst (v := 1) hx hb dX1_look_80 (by decide) ?_
          refine lv_goto (tgt := 85) hx hb dX1_look_81 (by decide) ?_
          refine lv_iand hx hb dX1_look_85 ?_
          refine zm_topi (y := if ¬ X 10 x.toNatClampNeg = 0 ∧ b = false then 1 else 0) (by rcases hz10 x.toNatClampNeg with e | e <;> simp [e, c_10]) ?_
          refine zt_putN hx hb hts in_X4 tyX4 tyX4_ok nmX4 hown hK.1 hT hS (hY.p hq_4) rfl 11 (by decide) (va_Nw.use (A := args) rfl (hK.2.1.1 _ _ _ _ _ _ q403)) (fun _ h => h) rfl (v := .int (if ¬ X 10 x.toNatClampNeg = 0 ∧ b = false then 1 else 0)) (tyX4_ok 11 (by decide)) (zm_nz (by split; exact Or.inr rfl; exact Or.inl rfl)) (zm_fz (by split; exact Or.inr rfl; exact Or.inl rfl)) (show 11 < 20 from by decide) dX1_look_86 (fun H locs hT hS => ?_)
          obtain ⟨T, hT, hY⟩ : ∃ T1, zTH g A T1 H ∧ zSy S g (zu X 10 x.toNatClampNeg (if ¬ X 10 x.toNatClampNeg = 0 ∧ b = false then 1 else 0)) T1 := ⟨_, hT, hY.pw hq_4 10 (if ¬ X 10 x.toNatClampNeg = 0 ∧ b = false then 1 else 0) rfl (zpF_s S X 11 10 x.toNatClampNeg _ (by decide))⟩
          refine lv_iconst (v := 0) hx hb dX1_look_89 (by decide) ?_
          have hY0 := hY.hid 0 0 0 (Or.inl rfl)
          rw [zu_comm _ (show (10 : Nat) ≠ 0 by decide)] at hY0
          have e1 : m_look X x b = (0, zu (zu X 0 0 0) 10 x.toNatClampNeg (if ¬ X 10 x.toNatClampNeg = 0 ∧ b = false then 1 else 0)) := by simp [m_look, hm_2, of_decide_eq_false c_5, c_8, c_10, hx_11, c_13, c_10]
          exact vx_ret (ze_i hx hb hr hlocks hS dX1_look_90 (by show _ ≤ 2; omega) (by show _ ≤ 12; omega) T (by rw [e1]; exact ⟨⟨rfl, by simp [zu]⟩, hY0⟩) hT)
        · refine lv_aload_n hx hb dX1_look_62 rfl (lv_at hl 0 rfl) ?_
          refine zc_v (zr_V (As := []) (rest := []) ⟨hx, hb, hml, hown, hts⟩ (ct_X4_quarantine l g A S X _ hY hI x.toNatClampNeg hq_4) zn_X4_quarantine (lw_V q831 q734 q735 q54 q736) rfl (by decide) (by decide) hK (fun _ h => h) hS hT (zt_recv hK.1 hT (hY.p hq_4) rfl) rfl hl.1 (Nat.le_of_ble_eq_true rfl) dX1_look_63 ⟨by show _ + 0 ≤ _; omega, by show _ + 0 ≤ _; omega⟩) hS (fun _ h => h) (fun T H locs hY hT _ _ hS => ?_)
          have hp2 : x.toNatClampNeg < mN (m_holds X x.toNatClampNeg) := hq_4
          refine lv_aload_n hx hb dX1_look_66 rfl (lv_at hl 0 rfl) ?_
          refine zt_getN hx hb hts in_X4 hown hK.1 hT (hY.p hp2) rfl 12 (by decide) (va_Nw.use (A := args) rfl (hK.2.1.1 _ _ _ _ _ _ q406)) (fun _ h => h) rfl dX1_look_67 ?_
          have hY0 := hY.hid 0 0 0 (Or.inl rfl)
          rw [m_holds_c] at hY0
          refine zm_topi (y := X 18 x.toNatClampNeg) (congrFun (m_holds_keep X _ (by decide) (by decide)) _) ?_
          have e1 : m_look X x b = (X 18 x.toNatClampNeg, m_holds (zu X 0 0 0) x.toNatClampNeg) := by simp [m_look, hm_2, of_decide_eq_false c_5, c_8, c_10, hx_11, c_13, c_10]
          exact vx_ret (ze_i hx hb hr hlocks hS dX1_look_70 (by show _ ≤ 2; omega) (by show _ ≤ 12; omega) T (by rw [e1]; exact ⟨⟨rfl, by simp [m_holds, m_ends, zu]⟩, hY0⟩) hT)
      · refine lv_aload_n hx hb dX1_look_30 rfl (lv_at hl 0 rfl) ?_
        refine zc_i (zr_V (As := []) (rest := []) ⟨hx, hb, hml, hown, hts⟩ (ct_X4_isInStore l g A S X _ hY hI x.toNatClampNeg hq_4) zn_X4_isInStore (lw_V q543 q544 q545 q54 q546) rfl (by decide) (by decide) hK (fun _ h => h) hS hT (zt_recv hK.1 hT (hY.p hq_4) rfl) rfl hl.1 (Nat.le_of_ble_eq_true rfl) dX1_look_31 ⟨by show _ + 0 ≤ _; omega, by show _ + 0 ≤ _; omega⟩) hS (fun _ h => h) (fun r _ H locs hr_15 hT _ _ hS => ?_)
        subst hr_15
        refine zl_ifeq (tgt := 41) hx hb dX1_look_34 (by decide) (fun c_16 => ?_) (fun c_16 => ?_)
        · refine lv_iconst (v := 0) hx hb dX1_look_41 (by decide) ?_
          refine zm_topi (y := zb false) rfl ?_
          refine zxc_v (zxr_S (As := [.int (zb false)]) (rest := []) ⟨hx, hb, hml, hown, hts⟩ (ct_X1_needState l hl0 g A _ false) zn_X1_needState (lw_S q338 q339 q39 q340) (by decide) (by decide) hK (fun _ h => h) hS hT rfl hl.1 (Nat.le_of_ble_eq_true rfl) dX1_look_42 ⟨by show _ + 1 ≤ _; omega, by show _ + 6 ≤ _; omega⟩) hS hout hlocks (fun E hE => by obtain ⟨rfl, h0⟩ := hE; exact Or.inr (⟨rfl, by unfold m_look; first | exact absurd h0 (by decide) | (simp [zu, h0, hm_2, of_decide_eq_false c_5, c_8, c_10, of_decide_eq_false c_16]; done) | (fail)⟩)) (by show _ + 1 ≤ 2; omega) (by show _ + 6 ≤ 12; omega) (fun _ H locs hx_17 hT _ _ hS => ?_)
          cases hx_17
        · refine lv_iconst (v := 1) hx hb dX1_look_37 (by decide) ?_
          refine lv_goto (tgt := 42) hx hb dX1_look_38 (by decide) ?_
          refine zm_topi (y := zb true) rfl ?_
          refine zxc_v (zxr_S (As := [.int (zb true)]) (rest := []) ⟨hx, hb, hml, hown, hts⟩ (ct_X1_needState l hl0 g A _ true) zn_X1_needState (lw_S q338 q339 q39 q340) (by decide) (by decide) hK (fun _ h => h) hS hT rfl hl.1 (Nat.le_of_ble_eq_true rfl) dX1_look_42 ⟨by show _ + 1 ≤ _; omega, by show _ + 6 ≤ _; omega⟩) hS hout hlocks (fun E hE => by obtain ⟨rfl, h0⟩ := hE; exact Or.inr (⟨rfl, by unfold m_look; first | exact absurd h0 (by decide) | (simp [zu, h0, hm_2, of_decide_eq_false c_5, c_8, c_10, of_decide_eq_true c_16]; done) | (fail)⟩)) (by show _ + 1 ≤ 2; omega) (by show _ + 6 ≤ 12; omega) (fun _ H locs hx_18 hT _ _ hS => ?_)
          refine lv_aload_n hx hb dX1_look_45 rfl (lv_at hl 0 rfl) ?_
          refine zt_getN hx hb hts in_X4 hown hK.1 hT (hY.p hq_4) rfl 12 (by decide) (va_Nw.use (A := args) rfl (hK.2.1.1 _ _ _ _ _ _ q406)) (fun _ h => h) rfl dX1_look_46 ?_
          refine lv_iload_n hx hb dX1_look_49 rfl (lv_at hl 3 rfl) ?_
          refine zl_ifeq (tgt := 57) hx hb dX1_look_50 (by decide) (fun c_19 => by rw [c_10] at c_19; cases c_19) (fun _ => ?_)
          refine lv_iconst (v := 3) hx hb dX1_look_53 (by decide) ?_
          refine lv_goto (tgt := 59) hx hb dX1_look_54 (by decide) ?_
          refine lv_icmp_lt (tgt := 71) hx hb dX1_look_59 (by decide) (fun c_20 => ?_) (fun c_20 => ?_)
          · refine lv_aload_n hx hb dX1_look_71 rfl (lv_at hl 0 rfl) ?_
            refine lv_dup hx hb dX1_look_72 rfl ?_
            refine zt_getN hx hb hts in_X4 hown hK.1 hT (hY.p hq_4) rfl 11 (by decide) (va_Nw.use (A := args) rfl (hK.2.1.1 _ _ _ _ _ _ q403)) (fun _ h => h) rfl dX1_look_73 ?_
            refine lv_iload_n hx hb dX1_look_76 rfl (lv_at hl 3 rfl) ?_
            refine zl_ifne (tgt := 84) hx hb dX1_look_77 (by decide) (fun _ => ?_) (fun c_21 => by rw [c_10] at c_21; cases c_21)
            refine lv_iconst (v := 0) hx hb dX1_look_84 (by decide) ?_
            refine lv_iand hx hb dX1_look_85 ?_
            refine zm_topi (y := if ¬ X 10 x.toNatClampNeg = 0 ∧ b = false then 1 else 0) (by rcases hz10 x.toNatClampNeg with e | e <;> simp [e, c_10]) ?_
            refine zt_putN hx hb hts in_X4 tyX4 tyX4_ok nmX4 hown hK.1 hT hS (hY.p hq_4) rfl 11 (by decide) (va_Nw.use (A := args) rfl (hK.2.1.1 _ _ _ _ _ _ q403)) (fun _ h => h) rfl (v := .int (if ¬ X 10 x.toNatClampNeg = 0 ∧ b = false then 1 else 0)) (tyX4_ok 11 (by decide)) (zm_nz (by split; exact Or.inr rfl; exact Or.inl rfl)) (zm_fz (by split; exact Or.inr rfl; exact Or.inl rfl)) (show 11 < 20 from by decide) dX1_look_86 (fun H locs hT hS => ?_)
            obtain ⟨T, hT, hY⟩ : ∃ T1, zTH g A T1 H ∧ zSy S g (zu X 10 x.toNatClampNeg (if ¬ X 10 x.toNatClampNeg = 0 ∧ b = false then 1 else 0)) T1 := ⟨_, hT, hY.pw hq_4 10 (if ¬ X 10 x.toNatClampNeg = 0 ∧ b = false then 1 else 0) rfl (zpF_s S X 11 10 x.toNatClampNeg _ (by decide))⟩
            refine lv_iconst (v := 0) hx hb dX1_look_89 (by decide) ?_
            have hY0 := hY.hid 0 0 0 (Or.inl rfl)
            rw [zu_comm _ (show (10 : Nat) ≠ 0 by decide)] at hY0
            have e1 : m_look X x b = (0, zu (zu X 0 0 0) 10 x.toNatClampNeg (if ¬ X 10 x.toNatClampNeg = 0 ∧ b = false then 1 else 0)) := by simp [m_look, hm_2, of_decide_eq_false c_5, c_8, c_10, of_decide_eq_true c_16, hx_18, c_20, c_10]
            exact vx_ret (ze_i hx hb hr hlocks hS dX1_look_90 (by show _ ≤ 2; omega) (by show _ ≤ 12; omega) T (by rw [e1]; exact ⟨⟨rfl, by simp [zu]⟩, hY0⟩) hT)
          · refine lv_aload_n hx hb dX1_look_62 rfl (lv_at hl 0 rfl) ?_
            refine zc_v (zr_V (As := []) (rest := []) ⟨hx, hb, hml, hown, hts⟩ (ct_X4_quarantine l g A S X _ hY hI x.toNatClampNeg hq_4) zn_X4_quarantine (lw_V q831 q734 q735 q54 q736) rfl (by decide) (by decide) hK (fun _ h => h) hS hT (zt_recv hK.1 hT (hY.p hq_4) rfl) rfl hl.1 (Nat.le_of_ble_eq_true rfl) dX1_look_63 ⟨by show _ + 0 ≤ _; omega, by show _ + 0 ≤ _; omega⟩) hS (fun _ h => h) (fun T H locs hY hT _ _ hS => ?_)
            have hp2 : x.toNatClampNeg < mN (m_holds X x.toNatClampNeg) := hq_4
            refine lv_aload_n hx hb dX1_look_66 rfl (lv_at hl 0 rfl) ?_
            refine zt_getN hx hb hts in_X4 hown hK.1 hT (hY.p hp2) rfl 12 (by decide) (va_Nw.use (A := args) rfl (hK.2.1.1 _ _ _ _ _ _ q406)) (fun _ h => h) rfl dX1_look_67 ?_
            have hY0 := hY.hid 0 0 0 (Or.inl rfl)
            rw [m_holds_c] at hY0
            refine zm_topi (y := X 18 x.toNatClampNeg) (congrFun (m_holds_keep X _ (by decide) (by decide)) _) ?_
            have e1 : m_look X x b = (X 18 x.toNatClampNeg, m_holds (zu X 0 0 0) x.toNatClampNeg) := by simp [m_look, hm_2, of_decide_eq_false c_5, c_8, c_10, of_decide_eq_true c_16, hx_18, c_20, c_10]
            exact vx_ret (ze_i hx hb hr hlocks hS dX1_look_70 (by show _ ≤ 2; omega) (by show _ ≤ 12; omega) T (by rw [e1]; exact ⟨⟨rfl, by simp [m_holds, m_ends, zu]⟩, hY0⟩) hT)
theorem zn_X1_release : zN yX1_release 1 := by decide +kernel
set_option maxHeartbeats 4000000 in
theorem ct_X1_release (l : Launch) (hl0 : l.stackTraces = false) (g : zG) (A : Nat → Prop) (S : zS) (X : zX) (T : zT) (hY : zSy S g X T) (hI : MH X) (hC : zKo S X) (hKk : zKk S X) (hz9 : ∀ p, X 9 p = 0 ∨ X 9 p = 1) (hz10 : ∀ p, X 10 p = 0 ∨ X 10 p = 1) (hBB : zBB S X) (x : Int32) : vx_Met l yX1_release (ws_ yX1_release cX1_release 4 (some .int)) (zR 18 9 33) (zP [.ref (S.A 0), .int x] g A (zTH g A T)) (va_Qi (fun rz_ (T1 : zT) => (rz_ = (m_release X x).1 ∧ (m_release X x).2 0 0 = 0) ∧ zSy S g (m_release X x).2 T1) (fun T1 t => zTH g A T1 t.heap) A) (zXC (fun E => (E = xIO ∧ (m_release X x).2 0 0 = 1) ∨ (E = xIA ∧ (m_release X x).2 0 0 = 2)) g A T) 9 33 A := by
  refine zb_xmet (by decide) (Nat.le_of_ble_eq_true rfl) ?_
  intro p e s m args below meth c ls hx hb hr hml hown hts hlocks hnm hK hT ha_ hl hout
  have hown : s.vm.findClass RX1 = some m.cls := hown
  have hS : va_S A s.heap s.heap [] := va_S.rf
  have hl : lv_has ls 4 [(0, .ref (S.A 0)), (1, .int x)] := hl
  refine lv_aload_n hx hb dX1_release_0 rfl (lv_at hl 0 rfl) ?_
  refine lv_iload_n hx hb dX1_release_1 rfl (lv_at hl 1 rfl) ?_
  refine lv_iconst (v := 0) hx hb dX1_release_2 (by decide) ?_
  refine zxc_q (zxr_V (As := [.int x, .int 0]) (rest := []) ⟨hx, hb, hml, hown, hts⟩ (ct_X1_needKind l hl0 g A S X _ hY hI x 0) zn_X1_needKind (lw_V q642 q644 qs9 q39 q645) rfl (by decide) (by decide) hK (fun _ h => h) hS hT (zt_recv hK.1 hT hY.w rfl) rfl hl.1 (Nat.le_of_ble_eq_true rfl) dX1_release_3 ⟨by show _ + 2 ≤ _; omega, by show _ + 12 ≤ _; omega⟩) hS hout hlocks (fun E hE => by rcases hE with ⟨rfl, h0⟩ | ⟨rfl, h0, h1⟩; exact Or.inl ⟨rfl, by unfold m_release; rw [if_pos (by rw [mKc_1 _ h0]; decide), mKc_1 _ h0]; exact zu_s X 0 0 1⟩; exact Or.inr ⟨rfl, by unfold m_release; rw [if_pos (by rw [mKc_2 h0 h1]; decide), mKc_2 h0 h1]; exact zu_s X 0 0 2⟩) (by show _ + 2 ≤ 9; omega) (by show _ + 12 ≤ 33; omega) (fun r _ H locs hr_1 hT _ _ hS => ?_)
  obtain ⟨rfl, hm_2, hk_3⟩ := hr_1
  obtain ⟨hq_4, hq_5⟩ := mIs_p hI hm_2
  have hkc : mKc X x 0 = 0 := mKc_0 hm_2 hk_3
  refine zm_top (v' := .ref (S.pa x.toNatClampNeg)) rfl ?_
  refine lv_astore_n (lv' := [(2, .ref (S.pa x.toNatClampNeg)), (0, .ref (S.A 0)), (1, .int x)]) hx hb dX1_release_6 rfl hl (by decide) rfl (fun ls hl => ?_)
  refine lv_aload_n hx hb dX1_release_7 rfl (lv_at hl 1 rfl) ?_
  refine lv_aload_n hx hb dX1_release_8 rfl (lv_at hl 0 rfl) ?_
  refine zc_i (zr_V (As := [.ref (S.pa x.toNatClampNeg)]) (rest := []) ⟨hx, hb, hml, hown, hts⟩ (ct_X1_reasonOf l g A S X _ hY hI hC hKk hz9 hz10 x.toNatClampNeg hq_5) zn_X1_reasonOf (lw_V q858 q860 qs12 q39 q861) rfl (by decide) (by decide) hK (fun _ h => h) hS hT (zt_recv hK.1 hT hY.w rfl) rfl hl.1 (Nat.le_of_ble_eq_true rfl) dX1_release_9 ⟨by show _ + 7 ≤ _; omega, by show _ + 21 ≤ _; omega⟩) hS (fun _ h => h) (fun r _ H locs hr1 hT _ _ hS => ?_)
  subst hr1
  refine zm_topi (y := mBo X x.toNatClampNeg / 100) (hBB.bo hI _ hq_5 hk_3).symm ?_
  refine lv_istore_n (lv' := [(3, .int (mBo X x.toNatClampNeg / 100)), (2, .ref (S.pa x.toNatClampNeg)), (0, .ref (S.A 0)), (1, .int x)]) hx hb dX1_release_12 rfl hl (by decide) rfl (fun ls hl => ?_)
  refine lv_aload_n hx hb dX1_release_13 rfl (lv_at hl 1 rfl) ?_
  refine lv_iload_n hx hb dX1_release_14 rfl (lv_at hl 0 rfl) ?_
  refine lv_if_ne (tgt := 22) hx hb dX1_release_15 (by decide) (fun c_6 => ?_) (fun c_6 => ?_)
  · refine lv_iconst (v := 0) hx hb dX1_release_22 (by decide) ?_
    refine zt_putN hx hb hts in_X4 tyX4 tyX4_ok nmX4 hown hK.1 hT hS (hY.p hq_5) rfl 18 (by decide) (va_Nw.use (A := args) rfl (hK.2.1.1 _ _ _ _ _ _ q416)) (fun _ h => h) rfl (v := .int 0) (tyX4_ok 18 (by decide)) (zm_nz (Or.inl rfl)) rfl (show 18 < 20 from by decide) dX1_release_23 (fun H locs hT hS => ?_)
    obtain ⟨T, hT, hY⟩ : ∃ T1, zTH g A T1 H ∧ zSy S g (zu X 11 x.toNatClampNeg 0) T1 := ⟨_, hT, hY.pw hq_5 11 0 rfl (zpF_s S X 18 11 x.toNatClampNeg _ (by decide))⟩
    refine lv_iload_n hx hb dX1_release_26 rfl (lv_at hl 0 rfl) ?_
    have hY0 := hY.hid 0 0 0 (Or.inl rfl)
    rw [zu_comm _ (show (11 : Nat) ≠ 0 by decide)] at hY0
    have e1 : m_release X x = (mBo X x.toNatClampNeg / 100, zu (zu X 0 0 0) 11 x.toNatClampNeg 0) := by simp [m_release, hkc, c_6]
    exact vx_ret (ze_i hx hb hr hlocks hS dX1_release_27 (by show _ ≤ 9; omega) (by show _ ≤ 33; omega) T (by rw [e1]; exact ⟨⟨rfl, by simp [zu]⟩, hY0⟩) hT)
  · refine lv_iconst (v := 1) hx hb dX1_release_18 (by decide) ?_
    refine lv_goto (tgt := 23) hx hb dX1_release_19 (by decide) ?_
    refine zt_putN hx hb hts in_X4 tyX4 tyX4_ok nmX4 hown hK.1 hT hS (hY.p hq_5) rfl 18 (by decide) (va_Nw.use (A := args) rfl (hK.2.1.1 _ _ _ _ _ _ q416)) (fun _ h => h) rfl (v := .int 1) (tyX4_ok 18 (by decide)) (zm_nz (Or.inr rfl)) rfl (show 18 < 20 from by decide) dX1_release_23 (fun H locs hT hS => ?_)
    obtain ⟨T, hT, hY⟩ : ∃ T1, zTH g A T1 H ∧ zSy S g (zu X 11 x.toNatClampNeg 1) T1 := ⟨_, hT, hY.pw hq_5 11 1 rfl (zpF_s S X 18 11 x.toNatClampNeg _ (by decide))⟩
    refine lv_iload_n hx hb dX1_release_26 rfl (lv_at hl 0 rfl) ?_
    have hY0 := hY.hid 0 0 0 (Or.inl rfl)
    rw [zu_comm _ (show (11 : Nat) ≠ 0 by decide)] at hY0
    have e1 : m_release X x = (mBo X x.toNatClampNeg / 100, zu (zu X 0 0 0) 11 x.toNatClampNeg 1) := by simp [m_release, hkc, c_6]
    exact vx_ret (ze_i hx hb hr hlocks hS dX1_release_27 (by show _ ≤ 9; omega) (by show _ ≤ 33; omega) T (by rw [e1]; exact ⟨⟨rfl, by simp [zu]⟩, hY0⟩) hT)
theorem zn_X1_wheel : zN yX1_wheel 2 := by decide +kernel
set_option maxHeartbeats 4000000 in
theorem ct_X1_wheel (l : Launch) (hl0 : l.stackTraces = false) (g : zG) (A : Nat → Prop) (S : zS) (X : zX) (T : zT) (hY : zSy S g X T) (hI : MH X) (x wh : Int32) : vx_Met l yX1_wheel (ws_ yX1_wheel cX1_wheel 4 (some .int)) (zR 9 3 18) (zP [.ref (S.A 0), .int x, .int wh] g A (zTH g A T)) (va_Qi (fun rz_ (T1 : zT) => (rz_ = (m_wheel X x wh).1 ∧ (m_wheel X x wh).2 0 0 = 0) ∧ zSy S g (m_wheel X x wh).2 T1) (fun T1 t => zTH g A T1 t.heap) A) (zXC (fun E => (E = xIO ∧ (m_wheel X x wh).2 0 0 = 1) ∨ (E = xIA ∧ (m_wheel X x wh).2 0 0 = 2)) g A T) 3 18 A := by
  refine zb_xmet (by decide) (Nat.le_of_ble_eq_true rfl) ?_
  intro p e s m args below meth c ls hx hb hr hml hown hts hlocks hnm hK hT ha_ hl hout
  have hown : s.vm.findClass RX1 = some m.cls := hown
  have hS : va_S A s.heap s.heap [] := va_S.rf
  have hl : lv_has ls 4 [(0, .ref (S.A 0)), (1, .int x), (2, .int wh)] := hl
  refine lv_aload_n hx hb dX1_wheel_0 rfl (lv_at hl 0 rfl) ?_
  refine lv_iload_n hx hb dX1_wheel_1 rfl (lv_at hl 1 rfl) ?_
  refine lv_iconst (v := 3) hx hb dX1_wheel_2 (by decide) ?_
  refine zxc_q (zxr_V (As := [.int x, .int 3]) (rest := []) ⟨hx, hb, hml, hown, hts⟩ (ct_X1_needKind l hl0 g A S X _ hY hI x 3) zn_X1_needKind (lw_V q642 q644 qs9 q39 q645) rfl (by decide) (by decide) hK (fun _ h => h) hS hT (zt_recv hK.1 hT hY.w rfl) rfl hl.1 (Nat.le_of_ble_eq_true rfl) dX1_wheel_3 ⟨by show _ + 2 ≤ _; omega, by show _ + 12 ≤ _; omega⟩) hS hout hlocks (fun E hE => by rcases hE with ⟨rfl, h0⟩ | ⟨rfl, h0, h1⟩; exact Or.inl ⟨rfl, by unfold m_wheel; rw [if_pos (by rw [mKc_1 _ h0]; decide), mKc_1 _ h0]; exact zu_s X 0 0 1⟩; exact Or.inr (⟨rfl, by unfold m_wheel; rw [if_pos (by rw [mKc_2 h0 h1]; decide), mKc_2 h0 h1]; exact zu_s X 0 0 2⟩)) (by show _ + 2 ≤ 3; omega) (by show _ + 12 ≤ 18; omega) (fun r _ H locs hr_1 hT _ _ hS => ?_)
  obtain ⟨rfl, hm_2, hk_3⟩ := hr_1
  obtain ⟨hq_4, hq_5⟩ := mIs_p hI hm_2
  have hkc : mKc X x 3 = 0 := mKc_0 hm_2 hk_3
  refine zm_top (v' := .ref (S.pa x.toNatClampNeg)) rfl ?_
  refine lv_astore_n (lv' := [(3, .ref (S.pa x.toNatClampNeg)), (0, .ref (S.A 0)), (1, .int x), (2, .int wh)]) hx hb dX1_wheel_6 rfl hl (by decide) rfl (fun ls hl => ?_)
  refine lv_iload_n hx hb dX1_wheel_7 rfl (lv_at hl 3 rfl) ?_
  refine lv_iconst (v := 0) hx hb dX1_wheel_8 (by decide) ?_
  refine lv_iconst (v := 2) hx hb dX1_wheel_9 (by decide) ?_
  refine zc_i (zr_S (As := [.int wh, .int 0, .int 2]) (rest := []) ⟨hx, hb, hml, hown, hts⟩ (ct_X1_in l g A (zTH g A _) wh 0 2) zn_X1_in (lw_S q262 q263 q39 q264) (by decide) (by decide) hK (fun _ h => h) hS hT rfl hl.1 (Nat.le_of_ble_eq_true rfl) dX1_wheel_10 ⟨by show _ + 0 ≤ _; omega, by show _ + 0 ≤ _; omega⟩) hS (fun _ h => h) (fun r _ H locs hr1 hT _ _ hS => ?_)
  subst hr1
  refine zxc_v (zxr_S (As := [.int (zb (zin wh 0 2))]) (rest := []) ⟨hx, hb, hml, hown, hts⟩ (ct_X1_need l hl0 g A _ (zin wh 0 2)) zn_X1_need (lw_S q265 q266 q39 q267) (by decide) (by decide) hK (fun _ h => h) hS hT rfl hl.1 (Nat.le_of_ble_eq_true rfl) dX1_wheel_13 ⟨by show _ + 1 ≤ _; omega, by show _ + 6 ≤ _; omega⟩) hS hout hlocks (fun E hE => by obtain ⟨rfl, h0⟩ := hE; exact Or.inr (⟨rfl, by unfold m_wheel; first | exact absurd h0 (by decide) | (simp [zu, h0, hkc]; done) | (fail)⟩)) (by show _ + 1 ≤ 3; omega) (by show _ + 6 ≤ 18; omega) (fun _ H locs hx_6 hT _ _ hS => ?_)
  refine lv_iload_n hx hb dX1_wheel_16 rfl (lv_at hl 3 rfl) ?_
  refine lv_if_ne (tgt := 27) hx hb dX1_wheel_17 (by decide) (fun c_7 => ?_) (fun c_7 => ?_)
  · refine lv_iload_n hx hb dX1_wheel_27 rfl (lv_at hl 3 rfl) ?_
    refine lv_iconst (v := 1) hx hb dX1_wheel_28 (by decide) ?_
    refine lv_icmp_ne (tgt := 39) hx hb dX1_wheel_29 (by decide) (fun c_8 => ?_) (fun c_8 => ?_)
    · refine lv_aload_n hx hb dX1_wheel_39 rfl (lv_at hl 0 rfl) ?_
      refine zt_getN hx hb hts in_X4 hown hK.1 hT (hY.p hq_5) rfl 17 (by decide) (va_Nw.use (A := args) rfl (hK.2.1.1 _ _ _ _ _ _ q415)) (fun _ h => h) rfl dX1_wheel_40 ?_
      have hY0 := hY.hid 0 0 0 (Or.inl rfl)
      have e1 : m_wheel X x wh = (if X 17 x.toNatClampNeg = 0 then -1 else X 16 x.toNatClampNeg, zu X 0 0 0) := by simp [m_wheel, hkc, show zin 0 0 2 = true from by decide, show zin 1 0 2 = true from by decide, hx_6, c_7, c_8]
      exact vx_ret (ze_i hx hb hr hlocks hS dX1_wheel_43 (by show _ ≤ 3; omega) (by show _ ≤ 18; omega) T (by rw [e1]; exact ⟨⟨rfl, by simp [zu]⟩, hY0⟩) hT)
    · refine lv_aload_n hx hb dX1_wheel_32 rfl (lv_at hl 0 rfl) ?_
      refine zt_getN hx hb hts in_X4 hown hK.1 hT (hY.p hq_5) rfl 15 (by decide) (va_Nw.use (A := args) rfl (hK.2.1.1 _ _ _ _ _ _ q412)) (fun _ h => h) rfl dX1_wheel_33 ?_
      refine lv_goto (tgt := 43) hx hb dX1_wheel_36 (by decide) ?_
      have hY0 := hY.hid 0 0 0 (Or.inl rfl)
      have e1 : m_wheel X x wh = (X 14 x.toNatClampNeg, zu X 0 0 0) := by simp [m_wheel, hkc, show zin 0 0 2 = true from by decide, show zin 1 0 2 = true from by decide, hx_6, c_7, c_8]
      exact vx_ret (ze_i hx hb hr hlocks hS dX1_wheel_43 (by show _ ≤ 3; omega) (by show _ ≤ 18; omega) T (by rw [e1]; exact ⟨⟨rfl, by simp [zu]⟩, hY0⟩) hT)
  · refine lv_aload_n hx hb dX1_wheel_20 rfl (lv_at hl 0 rfl) ?_
    refine zt_getN hx hb hts in_X4 hown hK.1 hT (hY.p hq_5) rfl 14 (by decide) (va_Nw.use (A := args) rfl (hK.2.1.1 _ _ _ _ _ _ q410)) (fun _ h => h) rfl dX1_wheel_21 ?_
    refine lv_goto (tgt := 43) hx hb dX1_wheel_24 (by decide) ?_
    have hY0 := hY.hid 0 0 0 (Or.inl rfl)
    have e1 : m_wheel X x wh = (X 13 x.toNatClampNeg, zu X 0 0 0) := by simp [m_wheel, hkc, show zin 0 0 2 = true from by decide, show zin 1 0 2 = true from by decide, hx_6, c_7]
    exact vx_ret (ze_i hx hb hr hlocks hS dX1_wheel_43 (by show _ ≤ 3; omega) (by show _ ≤ 18; omega) T (by rw [e1]; exact ⟨⟨rfl, by simp [zu]⟩, hY0⟩) hT)
theorem zn_X1_foretell : zN yX1_foretell 3 := by decide +kernel
set_option maxHeartbeats 4000000 in
theorem ct_X1_foretell (l : Launch) (hl0 : l.stackTraces = false) (g : zG) (A : Nat → Prop) (S : zS) (X : zX) (T : zT) (hY : zSy S g X T) (hI : MH X) (hgt : ∀ p, p < mN X → ¬ X 17 p = 0 → ¬ X 16 p = -1) (x km se : Int32) : vx_Met l yX1_foretell (ws_ yX1_foretell cX1_foretell 5 (some .int)) (zR 9 3 18) (zP [.ref (S.A 0), .int x, .int km, .int se] g A (zTH g A T)) (va_Qi (fun rz_ (T1 : zT) => (rz_ = (m_foretell X x km se).1 ∧ (m_foretell X x km se).2 0 0 = 0) ∧ zSy S g (m_foretell X x km se).2 T1) (fun T1 t => zTH g A T1 t.heap) A) (zXC (fun E => (E = xIO ∧ (m_foretell X x km se).2 0 0 = 1) ∨ (E = xIA ∧ (m_foretell X x km se).2 0 0 = 2)) g A T) 3 18 A := by
  refine zb_xmet (by decide) (Nat.le_of_ble_eq_true rfl) ?_
  intro p e s m args below meth c ls hx hb hr hml hown hts hlocks hnm hK hT ha_ hl hout
  have hown : s.vm.findClass RX1 = some m.cls := hown
  have hS : va_S A s.heap s.heap [] := va_S.rf
  have hl : lv_has ls 5 [(0, .ref (S.A 0)), (1, .int x), (2, .int km), (3, .int se)] := hl
  refine lv_aload_n hx hb dX1_foretell_0 rfl (lv_at hl 0 rfl) ?_
  refine lv_iload_n hx hb dX1_foretell_1 rfl (lv_at hl 1 rfl) ?_
  refine lv_iconst (v := 3) hx hb dX1_foretell_2 (by decide) ?_
  refine zxc_q (zxr_V (As := [.int x, .int 3]) (rest := []) ⟨hx, hb, hml, hown, hts⟩ (ct_X1_needKind l hl0 g A S X _ hY hI x 3) zn_X1_needKind (lw_V q642 q644 qs9 q39 q645) rfl (by decide) (by decide) hK (fun _ h => h) hS hT (zt_recv hK.1 hT hY.w rfl) rfl hl.1 (Nat.le_of_ble_eq_true rfl) dX1_foretell_3 ⟨by show _ + 2 ≤ _; omega, by show _ + 12 ≤ _; omega⟩) hS hout hlocks (fun E hE => by rcases hE with ⟨rfl, h0⟩ | ⟨rfl, h0, h1⟩; exact Or.inl ⟨rfl, by unfold m_foretell; rw [if_pos (by rw [mKc_1 _ h0]; decide), mKc_1 _ h0]; exact zu_s X 0 0 1⟩; exact Or.inr (⟨rfl, by unfold m_foretell; rw [if_pos (by rw [mKc_2 h0 h1]; decide), mKc_2 h0 h1]; exact zu_s X 0 0 2⟩)) (by show _ + 2 ≤ 3; omega) (by show _ + 12 ≤ 18; omega) (fun r _ H locs hr_1 hT _ _ hS => ?_)
  obtain ⟨rfl, hm_2, hk_3⟩ := hr_1
  obtain ⟨hq_4, hq_5⟩ := mIs_p hI hm_2
  have hkc : mKc X x 3 = 0 := mKc_0 hm_2 hk_3
  refine zm_top (v' := .ref (S.pa x.toNatClampNeg)) rfl ?_
  refine lv_astore (lv' := [(4, .ref (S.pa x.toNatClampNeg)), (0, .ref (S.A 0)), (1, .int x), (2, .int km), (3, .int se)]) hx hb dX1_foretell_6 hl (by decide) rfl (fun ls hl => ?_)
  refine lv_iload_n hx hb dX1_foretell_8 rfl (lv_at hl 3 rfl) ?_
  refine lv_iconst (v := 1) hx hb dX1_foretell_9 (by decide) ?_
  refine lv_sipush (v := 2000) hx hb dX1_foretell_10 (by decide) ?_
  refine zc_i (zr_S (As := [.int km, .int 1, .int 2000]) (rest := []) ⟨hx, hb, hml, hown, hts⟩ (ct_X1_in l g A (zTH g A _) km 1 2000) zn_X1_in (lw_S q262 q263 q39 q264) (by decide) (by decide) hK (fun _ h => h) hS hT rfl hl.1 (Nat.le_of_ble_eq_true rfl) dX1_foretell_13 ⟨by show _ + 0 ≤ _; omega, by show _ + 0 ≤ _; omega⟩) hS (fun _ h => h) (fun r _ H locs hr1 hT _ _ hS => ?_)
  subst hr1
  refine zl_ifeq (tgt := 32) hx hb dX1_foretell_16 (by decide) (fun c_6 => ?_) (fun c_6 => ?_)
  · refine lv_iconst (v := 0) hx hb dX1_foretell_32 (by decide) ?_
    refine zm_topi (y := zb false) rfl ?_
    refine zxc_v (zxr_S (As := [.int (zb false)]) (rest := []) ⟨hx, hb, hml, hown, hts⟩ (ct_X1_need l hl0 g A _ false) zn_X1_need (lw_S q265 q266 q39 q267) (by decide) (by decide) hK (fun _ h => h) hS hT rfl hl.1 (Nat.le_of_ble_eq_true rfl) dX1_foretell_33 ⟨by show _ + 1 ≤ _; omega, by show _ + 6 ≤ _; omega⟩) hS hout hlocks (fun E hE => by obtain ⟨rfl, h0⟩ := hE; exact Or.inr (⟨rfl, by unfold m_foretell; first | exact absurd h0 (by decide) | (simp [zu, h0, hkc, c_6]; done) | (fail)⟩)) (by show _ + 1 ≤ 3; omega) (by show _ + 6 ≤ 18; omega) (fun _ H locs hx_7 hT _ _ hS => ?_)
    cases hx_7
  · refine lv_iload_n hx hb dX1_foretell_19 rfl (lv_at hl 4 rfl) ?_
    refine lv_iconst (v := 0) hx hb dX1_foretell_20 (by decide) ?_
    refine lv_iconst (v := 3) hx hb dX1_foretell_21 (by decide) ?_
    refine zc_i (zr_S (As := [.int se, .int 0, .int 3]) (rest := []) ⟨hx, hb, hml, hown, hts⟩ (ct_X1_in l g A (zTH g A _) se 0 3) zn_X1_in (lw_S q262 q263 q39 q264) (by decide) (by decide) hK (fun _ h => h) hS hT rfl hl.1 (Nat.le_of_ble_eq_true rfl) dX1_foretell_22 ⟨by show _ + 0 ≤ _; omega, by show _ + 0 ≤ _; omega⟩) hS (fun _ h => h) (fun r _ H locs hr1 hT _ _ hS => ?_)
    subst hr1
    refine zl_ifeq (tgt := 32) hx hb dX1_foretell_25 (by decide) (fun c_8 => ?_) (fun c_8 => ?_)
    · refine lv_iconst (v := 0) hx hb dX1_foretell_32 (by decide) ?_
      refine zm_topi (y := zb false) rfl ?_
      refine zxc_v (zxr_S (As := [.int (zb false)]) (rest := []) ⟨hx, hb, hml, hown, hts⟩ (ct_X1_need l hl0 g A _ false) zn_X1_need (lw_S q265 q266 q39 q267) (by decide) (by decide) hK (fun _ h => h) hS hT rfl hl.1 (Nat.le_of_ble_eq_true rfl) dX1_foretell_33 ⟨by show _ + 1 ≤ _; omega, by show _ + 6 ≤ _; omega⟩) hS hout hlocks (fun E hE => by obtain ⟨rfl, h0⟩ := hE; exact Or.inr (⟨rfl, by unfold m_foretell; first | exact absurd h0 (by decide) | (simp [zu, h0, hkc, c_6, c_8]; done) | (fail)⟩)) (by show _ + 1 ≤ 3; omega) (by show _ + 6 ≤ 18; omega) (fun _ H locs hx_9 hT _ _ hS => ?_)
      cases hx_9
    · refine lv_iconst (v := 1) hx hb dX1_foretell_28 (by decide) ?_
      refine lv_goto (tgt := 33) hx hb dX1_foretell_29 (by decide) ?_
      refine zm_topi (y := zb true) rfl ?_
      refine zxc_v (zxr_S (As := [.int (zb true)]) (rest := []) ⟨hx, hb, hml, hown, hts⟩ (ct_X1_need l hl0 g A _ true) zn_X1_need (lw_S q265 q266 q39 q267) (by decide) (by decide) hK (fun _ h => h) hS hT rfl hl.1 (Nat.le_of_ble_eq_true rfl) dX1_foretell_33 ⟨by show _ + 1 ≤ _; omega, by show _ + 6 ≤ _; omega⟩) hS hout hlocks (fun E hE => by obtain ⟨rfl, h0⟩ := hE; exact Or.inr (⟨rfl, by unfold m_foretell; first | exact absurd h0 (by decide) | (simp [zu, h0, hkc, c_6, c_8]; done) | (fail)⟩)) (by show _ + 1 ≤ 3; omega) (by show _ + 6 ≤ 18; omega) (fun _ H locs hx_10 hT _ _ hS => ?_)
      refine lv_aload hx hb dX1_foretell_36 (lv_at hl 0 rfl) ?_
      refine zt_getN hx hb hts in_X4 hown hK.1 hT (hY.p hq_5) rfl 17 (by decide) (va_Nw.use (A := args) rfl (hK.2.1.1 _ _ _ _ _ _ q415)) (fun _ h => h) rfl dX1_foretell_38 ?_
      refine lv_iconst (v := (-1)) hx hb dX1_foretell_41 (by decide) ?_
      refine lv_icmp_ne (tgt := 49) hx hb dX1_foretell_42 (by decide) (fun c_11 => ?_) (fun c_11 => ?_)
      · refine lv_iconst (v := 0) hx hb dX1_foretell_49 (by decide) ?_
        refine lv_aload hx hb dX1_foretell_50 (lv_at hl 0 rfl) ?_
        refine zt_getN hx hb hts in_X4 hown hK.1 hT (hY.p hq_5) rfl 17 (by decide) (va_Nw.use (A := args) rfl (hK.2.1.1 _ _ _ _ _ _ q415)) (fun _ h => h) rfl dX1_foretell_52 ?_
        refine lv_sipush (v := 250) hx hb dX1_foretell_55 (by decide) ?_
        refine lv_isub hx hb dX1_foretell_58 ?_
        refine va_mmax hx hb (by rw [hml]; exact hl.1.symm) hown (hts _ q986) (hts _ q135) (hts _ q45) (hts _ q136) (Nat.le_of_ble_eq_true rfl) (Nat.le_of_ble_eq_true rfl) (by show _ ≤ 3; omega) (by show _ ≤ 18; omega) dX1_foretell_59 ?_
        refine lv_sipush (v := 200) hx hb dX1_foretell_62 (by decide) ?_
        refine lv_imul hx hb dX1_foretell_65 ?_
        refine lv_iload_n hx hb dX1_foretell_66 rfl (lv_at hl 3 rfl) ?_
        refine lv_iload_n hx hb dX1_foretell_67 rfl (lv_at hl 4 rfl) ?_
        refine zc_i (zr_S (As := [.int se]) (rest := [.int km, .int ((if 0 < (if X 17 x.toNatClampNeg = 0 then -1 else X 16 x.toNatClampNeg) - 250 then (if X 17 x.toNatClampNeg = 0 then -1 else X 16 x.toNatClampNeg) - 250 else 0) * 200)]) ⟨hx, hb, hml, hown, hts⟩ (ct_X1_factor l g A (zTH g A _) se) zn_X1_factor (lw_S q646 q647 q39 q648) (by decide) (by decide) hK (fun _ h => h) hS hT rfl hl.1 (Nat.le_of_ble_eq_true rfl) dX1_foretell_68 ⟨by show _ + 0 ≤ _; omega, by show _ + 0 ≤ _; omega⟩) hS (fun _ h => h) (fun r _ H locs hr1 hT _ _ hS => ?_)
        subst hr1
        refine lv_imul hx hb dX1_foretell_71 ?_
        have hz3 : zin se 0 3 = true := by assumption
        have hz2 : zin km 1 2000 = true := by assumption
        refine zm_topi (y := km * mFa se) (by rw [zfc_m hz3]) ?_
        refine lv_idiv hx hb dX1_foretell_72 (mFa_nz hz2 hz3) ?_
        have hY0 := hY.hid 0 0 0 (Or.inl rfl)
        have e1 : m_foretell X x km se = (((if 0 < (if X 17 x.toNatClampNeg = 0 then -1 else X 16 x.toNatClampNeg) - 250 then (if X 17 x.toNatClampNeg = 0 then -1 else X 16 x.toNatClampNeg) - 250 else 0) * 200) / (km * mFa se), zu X 0 0 0) := by have z : ¬ X 17 x.toNatClampNeg = 0 := fun z => c_11 (by rw [if_pos z]); simp only [if_neg z]; by_cases z2 : 0 < X 16 x.toNatClampNeg - 250 <;> simp [m_foretell, hkc, z, z2, c_6, c_8, hx_10]
        exact vx_ret (ze_i hx hb hr hlocks hS dX1_foretell_73 (by show _ ≤ 3; omega) (by show _ ≤ 18; omega) T (by rw [e1]; exact ⟨⟨rfl, by simp [zu]⟩, hY0⟩) hT)
      · refine lv_iconst (v := (-1)) hx hb dX1_foretell_45 (by decide) ?_
        refine lv_goto (tgt := 73) hx hb dX1_foretell_46 (by decide) ?_
        have hY0 := hY.hid 0 0 0 (Or.inl rfl)
        have e1 : m_foretell X x km se = ((-1), zu X 0 0 0) := by by_cases z : X 17 x.toNatClampNeg = 0; simp [m_foretell, hkc, z, c_6, c_8, hx_10]; exact absurd (by rw [if_neg z] at c_11; exact c_11) (hgt _ hq_5 z)
        exact vx_ret (ze_i hx hb hr hlocks hS dX1_foretell_73 (by show _ ≤ 3; omega) (by show _ ≤ 18; omega) T (by rw [e1]; exact ⟨⟨rfl, by simp [zu]⟩, hY0⟩) hT)
theorem zn_X1_isReleased : zN yX1_isReleased 1 := by decide +kernel
set_option maxHeartbeats 4000000 in
theorem ct_X1_isReleased (l : Launch) (hl0 : l.stackTraces = false) (g : zG) (A : Nat → Prop) (S : zS) (X : zX) (T : zT) (hY : zSy S g X T) (hI : MH X) (hz11 : ∀ p, X 11 p = 0 ∨ X 11 p = 1) (x : Int32) : vx_Met l yX1_isReleased (ws_ yX1_isReleased cX1_isReleased 2 (some .boolean)) (zR 9 2 12) (zP [.ref (S.A 0), .int x] g A (zTH g A T)) (va_Qi (fun rz_ (_ : Unit) => rz_ = zb (m_isRel X x) ∧ mKc X x 0 = 0) (fun (_ : Unit) t => zTH g A T t.heap) A) (zXC (fun E => (E = xIO ∧ mKc X x 0 = 1) ∨ (E = xIA ∧ mKc X x 0 = 2)) g A T) 2 12 A := by
  refine zb_xmet (by decide) (Nat.le_of_ble_eq_true rfl) ?_
  intro p e s m args below meth c ls hx hb hr hml hown hts hlocks hnm hK hT ha_ hl hout
  have hown : s.vm.findClass RX1 = some m.cls := hown
  have hS : va_S A s.heap s.heap [] := va_S.rf
  have hl : lv_has ls 2 [(0, .ref (S.A 0)), (1, .int x)] := hl
  refine lv_aload_n hx hb dX1_isReleased_0 rfl (lv_at hl 0 rfl) ?_
  refine lv_iload_n hx hb dX1_isReleased_1 rfl (lv_at hl 1 rfl) ?_
  refine lv_iconst (v := 0) hx hb dX1_isReleased_2 (by decide) ?_
  refine zxc_q (zxr_V (As := [.int x, .int 0]) (rest := []) ⟨hx, hb, hml, hown, hts⟩ (ct_X1_needKind l hl0 g A S X _ hY hI x 0) zn_X1_needKind (lw_V q642 q644 qs9 q39 q645) rfl (by decide) (by decide) hK (fun _ h => h) hS hT (zt_recv hK.1 hT hY.w rfl) rfl hl.1 (Nat.le_of_ble_eq_true rfl) dX1_isReleased_3 ⟨by show _ + 2 ≤ _; omega, by show _ + 12 ≤ _; omega⟩) hS hout hlocks (fun E hE => by rcases hE with ⟨rfl, h0⟩ | ⟨rfl, h0, h1⟩; exact Or.inl ⟨rfl, mKc_1 _ h0⟩; exact Or.inr ⟨rfl, mKc_2 h0 h1⟩) (by show _ + 2 ≤ 2; omega) (by show _ + 12 ≤ 12; omega) (fun r _ H locs hr_1 hT _ _ hS => ?_)
  obtain ⟨rfl, hm_2, hk_3⟩ := hr_1
  obtain ⟨hq_4, hq_5⟩ := mIs_p hI hm_2
  have hkc : mKc X x 0 = 0 := mKc_0 hm_2 hk_3
  refine zm_top (v' := .ref (S.pa x.toNatClampNeg)) rfl ?_
  refine zt_getN hx hb hts in_X4 hown hK.1 hT (hY.p hq_5) rfl 18 (by decide) (va_Nw.use (A := args) rfl (hK.2.1.1 _ _ _ _ _ _ q416)) (fun _ h => h) rfl dX1_isReleased_6 ?_
  have e1 : X 11 x.toNatClampNeg = zb (m_isRel X x) ∧ mKc X x 0 = 0 := ⟨by rcases hz11 x.toNatClampNeg with e | e <;> (rw [e]; simp [m_isRel, hkc, e, zb]), hkc⟩
  exact vx_ret (ze_z hx hb hr hlocks hS dX1_isReleased_9 (by show _ ≤ 2; omega) (by show _ ≤ 12; omega) (hz11 _) () e1 hT)
