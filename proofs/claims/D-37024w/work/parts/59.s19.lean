theorem zn_X1_fit : zN yX1_fit 2 := by decide +kernel
set_option maxHeartbeats 4000000 in
theorem ct_X1_fit (l : Launch) (hl0 : l.stackTraces = false) (g : zG) (A : Nat → Prop) (S : zS) (X : zX) (T : zT) (hY : zSy S g X T) (hI : MH X) (hC : zKo S X) (hO : zTo S X) (hL : zLo S X) (hMd : zMd X) (hCt : zCt S X) (hz12 : ∀ p, X 12 p = 0 ∨ X 12 p = 1) (x y : Int32) : vx_Met l yX1_fit (ws_ yX1_fit cX1_fit 5 (some .int)) (zR 9 9 700) (zP [.ref (S.A 0), .int x, .int y] g A (zTH g A T)) (va_Qi (fun rz_ (u : zS × zT) => (rz_ = (m_fit X x y).1 ∧ (m_fit X x y).2 0 0 = 0) ∧ zSy u.1 g (m_fit X x y).2 u.2 ∧ ∃ q, u.1 = ((S.kS y.toNatClampNeg (S.K y.toNatClampNeg ++ [x.toNatClampNeg])).tA x.toNatClampNeg (some y.toNatClampNeg)).lA (q, x.toNatClampNeg, some y.toNatClampNeg, 0)) (fun u t => zTH g A u.2 t.heap) A) (zXC (fun E => (E = xIO ∧ (m_fit X x y).2 0 0 = 1) ∨ (E = xIA ∧ (m_fit X x y).2 0 0 = 2) ∨ (E = xIS ∧ (m_fit X x y).2 0 0 = 3)) g A T) 9 700 A := by
  refine zb_xmet (by decide) (Nat.le_of_ble_eq_true rfl) ?_
  intro p e s m args below meth c ls hx hb hr hml hown hts hlocks hnm hK hT ha_ hl hout
  have hown : s.vm.findClass RX1 = some m.cls := hown
  have hS : va_S A s.heap s.heap [] := va_S.rf
  have hl : lv_has ls 5 [(0, .ref (S.A 0)), (1, .int x), (2, .int y)] := hl
  have hn60 := hI.1.2
  refine lv_aload_n hx hb dX1_fit_0 rfl (lv_at hl 0 rfl) ?_
  refine zt_get hx hb hts in_X1 hown hK.1 hT hY.w rfl 0 (by decide) (hts _ q177) (fun _ h => h) rfl dX1_fit_1 ?_
  refine lv_iload_n hx hb dX1_fit_4 rfl (lv_at hl 1 rfl) ?_
  refine zxc_q (zxr_V (As := [.int x]) (rest := []) ⟨hx, hb, hml, hown, hts⟩ (ct_X2_need l hl0 g A S X _ hY hI x) zn_X2_need (lw_V q514 q515 q516 q40 q517) rfl (by decide) (by decide) hK (fun _ h => h) hS hT (zt_recv hK.1 hT hY.rk rfl) rfl hl.1 (Nat.le_of_ble_eq_true rfl) dX1_fit_5 ⟨by show _ + 1 ≤ _; omega, by show _ + 6 ≤ _; omega⟩) hS hout hlocks (fun E hE => by obtain ⟨rfl, h0⟩ := hE; exact Or.inl ⟨rfl, by unfold m_fit; rw [if_pos (Or.inl h0)]; exact zu_s X 0 0 1⟩) (by show _ + 1 ≤ 9; omega) (by show _ + 6 ≤ 700; omega) (fun r _ H locs hr_1 hT _ _ hS => ?_)
  obtain ⟨rfl, hm_2⟩ := hr_1
  obtain ⟨hq_3, hq_4⟩ := mIs_p hI hm_2
  refine zm_top (v' := .ref (S.pa x.toNatClampNeg)) rfl ?_
  refine va_castS hx hb hown (hts _ q356) (hK.1.1 3 _ rfl).2 (zt_recv hK.1 hT (hY.p hq_4) (r := zCl[3]) rfl) dX1_fit_8 ?_
  refine lv_astore_n (lv' := [(3, .ref (S.pa x.toNatClampNeg)), (0, .ref (S.A 0)), (1, .int x), (2, .int y)]) hx hb dX1_fit_11 rfl hl (by decide) rfl (fun ls hl => ?_)
  refine lv_aload_n hx hb dX1_fit_12 rfl (lv_at hl 1 rfl) ?_
  refine zt_get hx hb hts in_X1 hown hK.1 hT hY.w rfl 0 (by decide) (hts _ q177) (fun _ h => h) rfl dX1_fit_13 ?_
  refine lv_iload_n hx hb dX1_fit_16 rfl (lv_at hl 3 rfl) ?_
  refine zxc_q (zxr_V (As := [.int y]) (rest := []) ⟨hx, hb, hml, hown, hts⟩ (ct_X2_need l hl0 g A S X _ hY hI y) zn_X2_need (lw_V q514 q515 q516 q40 q517) rfl (by decide) (by decide) hK (fun _ h => h) hS hT (zt_recv hK.1 hT hY.rk rfl) rfl hl.1 (Nat.le_of_ble_eq_true rfl) dX1_fit_17 ⟨by show _ + 1 ≤ _; omega, by show _ + 6 ≤ _; omega⟩) hS hout hlocks (fun E hE => by obtain ⟨rfl, h0⟩ := hE; exact Or.inl ⟨rfl, by unfold m_fit; rw [if_pos (Or.inr h0)]; exact zu_s X 0 0 1⟩) (by show _ + 1 ≤ 9; omega) (by show _ + 6 ≤ 700; omega) (fun r _ H locs hr_5 hT _ _ hS => ?_)
  obtain ⟨rfl, hm_6⟩ := hr_5
  obtain ⟨hq_7, hq_8⟩ := mIs_p hI hm_6
  refine zm_top (v' := .ref (S.pa y.toNatClampNeg)) rfl ?_
  refine va_castS hx hb hown (hts _ q356) (hK.1.1 3 _ rfl).2 (zt_recv hK.1 hT (hY.p hq_8) (r := zCl[3]) rfl) dX1_fit_20 ?_
  refine lv_astore (lv' := [(4, .ref (S.pa y.toNatClampNeg)), (3, .ref (S.pa x.toNatClampNeg)), (0, .ref (S.A 0)), (1, .int x), (2, .int y)]) hx hb dX1_fit_23 hl (by decide) rfl (fun ls hl => ?_)
  have hp := hq_4
  have hh := hq_8
  have hye : y = nI y.toNatClampNeg := (mIs_p hI hm_6).1
  refine lv_aload hx hb dX1_fit_25 (lv_at hl 0 rfl) ?_
  refine lv_aload_n hx hb dX1_fit_27 rfl (lv_at hl 1 rfl) ?_
  refine zt_getN hx hb hts in_X4 hown hK.1 hT (hY.p hq_4) rfl 1 (by decide) (va_Nw.use (A := args) rfl (hK.2.1.1 _ _ _ _ _ _ q385)) (fun _ h => h) rfl dX1_fit_28 ?_
  refine zc_i (zr_V (As := [.int (X 2 x.toNatClampNeg)]) (rest := []) ⟨hx, hb, hml, hown, hts⟩ (ct_X4_places l g A S X _ hY hI y.toNatClampNeg hq_8 (X 2 x.toNatClampNeg)) zn_X4_places (lw_V q539 q540 q541 q54 q542) rfl (by decide) (by decide) hK (fun _ h => h) hS hT (zt_recv hK.1 hT (hY.p hq_8) rfl) rfl hl.1 (Nat.le_of_ble_eq_true rfl) dX1_fit_31 ⟨by show _ + 0 ≤ _; omega, by show _ + 0 ≤ _; omega⟩) hS (fun _ h => h) (fun r _ H locs hr_9 hT _ _ hS => ?_)
  subst hr_9
  refine lv_if_le (tgt := 41) hx hb dX1_fit_34 (by decide) (fun c_10 => ?_) (fun c_10 => ?_)
  · refine lv_iconst (v := 0) hx hb dX1_fit_41 (by decide) ?_
    refine zm_topi (y := zb false) rfl ?_
    refine zxc_v (zxr_S (As := [.int (zb false)]) (rest := []) ⟨hx, hb, hml, hown, hts⟩ (ct_X1_need l hl0 g A _ false) zn_X1_need (lw_S q265 q266 q39 q267) (by decide) (by decide) hK (fun _ h => h) hS hT rfl hl.1 (Nat.le_of_ble_eq_true rfl) dX1_fit_42 ⟨by show _ + 1 ≤ _; omega, by show _ + 6 ≤ _; omega⟩) hS hout hlocks (fun E hE => by obtain ⟨rfl, h0⟩ := hE; exact Or.inr (Or.inl ⟨rfl, by unfold m_fit; first | exact absurd h0 (by decide) | (rw [if_neg (by rw [hm_2, hm_6]; decide), if_pos ((zgt_nn (mPl_nn _ _)).mp c_10)]; exact zu_s X 0 0 2)⟩)) (by show _ + 1 ≤ 9; omega) (by show _ + 6 ≤ 700; omega) (fun _ H locs hx_11 hT _ _ hS => ?_)
    cases hx_11
  · refine lv_iconst (v := 1) hx hb dX1_fit_37 (by decide) ?_
    refine lv_goto (tgt := 42) hx hb dX1_fit_38 (by decide) ?_
    refine zm_topi (y := zb true) rfl ?_
    refine zxc_v (zxr_S (As := [.int (zb true)]) (rest := []) ⟨hx, hb, hml, hown, hts⟩ (ct_X1_need l hl0 g A _ true) zn_X1_need (lw_S q265 q266 q39 q267) (by decide) (by decide) hK (fun _ h => h) hS hT rfl hl.1 (Nat.le_of_ble_eq_true rfl) dX1_fit_42 ⟨by show _ + 1 ≤ _; omega, by show _ + 6 ≤ _; omega⟩) hS hout hlocks (fun E hE => by obtain ⟨rfl, h0⟩ := hE; exact Or.inr (Or.inl ⟨rfl, by unfold m_fit; first | exact absurd h0 (by decide) | (rw [if_neg (by rw [hm_2, hm_6]; decide), if_pos ((zgt_nn (mPl_nn _ _)).mp c_10)]; exact zu_s X 0 0 2)⟩)) (by show _ + 1 ≤ 9; omega) (by show _ + 6 ≤ 700; omega) (fun _ H locs hx_12 hT _ _ hS => ?_)
    refine lv_aload_n hx hb dX1_fit_45 rfl (lv_at hl 1 rfl) ?_
    refine zc_i (zr_V (As := []) (rest := []) ⟨hx, hb, hml, hown, hts⟩ (ct_X4_isInStore l g A S X _ hY hI x.toNatClampNeg hq_4) zn_X4_isInStore (lw_V q543 q544 q545 q54 q546) rfl (by decide) (by decide) hK (fun _ h => h) hS hT (zt_recv hK.1 hT (hY.p hq_4) rfl) rfl hl.1 (Nat.le_of_ble_eq_true rfl) dX1_fit_46 ⟨by show _ + 0 ≤ _; omega, by show _ + 0 ≤ _; omega⟩) hS (fun _ h => h) (fun r _ H locs hr_13 hT _ _ hS => ?_)
    subst hr_13
    refine zl_ifeq (tgt := 79) hx hb dX1_fit_49 (by decide) (fun c_14 => ?_) (fun c_14 => ?_)
    · refine lv_iconst (v := 0) hx hb dX1_fit_79 (by decide) ?_
      refine zm_topi (y := zb false) rfl ?_
      refine zxc_v (zxr_S (As := [.int (zb false)]) (rest := []) ⟨hx, hb, hml, hown, hts⟩ (ct_X1_needState l hl0 g A _ false) zn_X1_needState (lw_S q338 q339 q39 q340) (by decide) (by decide) hK (fun _ h => h) hS hT rfl hl.1 (Nat.le_of_ble_eq_true rfl) dX1_fit_80 ⟨by show _ + 1 ≤ _; omega, by show _ + 6 ≤ _; omega⟩) hS hout hlocks (fun E hE => by obtain ⟨rfl, h0⟩ := hE; first | exact absurd h0 (by decide) | (have hcan : mCan X x.toNatClampNeg y.toNatClampNeg = false := (by unfold mCan; rw [← hCt.1 _ hh _ hp]; have hab := zabs hMd hp hh; simp [c_10, of_decide_eq_false c_14] <;> (have hab2 := hab.mp (by assumption); exact fun z => hab2.resolve_left (Int32.not_lt.mpr z))); exact Or.inr (Or.inr ⟨rfl, by unfold m_fit; rw [if_neg (by rw [hm_2, hm_6]; decide), if_neg (fun z => c_10 ((zgt_nn (mPl_nn _ _)).mpr z)), if_neg (by rw [hcan]; decide)]; exact zu_s X 0 0 3⟩))) (by show _ + 1 ≤ 9; omega) (by show _ + 6 ≤ 700; omega) (fun _ H locs hx_15 hT _ _ hS => ?_)
      cases hx_15
    · refine lv_aload_n hx hb dX1_fit_52 rfl (lv_at hl 1 rfl) ?_
      refine zt_getN hx hb hts in_X4 hown hK.1 hT (hY.p hq_4) rfl 10 (by decide) (va_Nw.use (A := args) rfl (hK.2.1.1 _ _ _ _ _ _ q401)) (fun _ h => h) rfl dX1_fit_53 ?_
      refine lv_if_ne (tgt := 79) hx hb dX1_fit_56 (by decide) (fun c_16 => ?_) (fun c_16 => ?_)
      · refine lv_iconst (v := 0) hx hb dX1_fit_79 (by decide) ?_
        refine zm_topi (y := zb false) rfl ?_
        refine zxc_v (zxr_S (As := [.int (zb false)]) (rest := []) ⟨hx, hb, hml, hown, hts⟩ (ct_X1_needState l hl0 g A _ false) zn_X1_needState (lw_S q338 q339 q39 q340) (by decide) (by decide) hK (fun _ h => h) hS hT rfl hl.1 (Nat.le_of_ble_eq_true rfl) dX1_fit_80 ⟨by show _ + 1 ≤ _; omega, by show _ + 6 ≤ _; omega⟩) hS hout hlocks (fun E hE => by obtain ⟨rfl, h0⟩ := hE; first | exact absurd h0 (by decide) | (have hcan : mCan X x.toNatClampNeg y.toNatClampNeg = false := (by unfold mCan; rw [← hCt.1 _ hh _ hp]; have hab := zabs hMd hp hh; simp [c_10, of_decide_eq_true c_14, c_16] <;> (have hab2 := hab.mp (by assumption); exact fun z => hab2.resolve_left (Int32.not_lt.mpr z))); exact Or.inr (Or.inr ⟨rfl, by unfold m_fit; rw [if_neg (by rw [hm_2, hm_6]; decide), if_neg (fun z => c_10 ((zgt_nn (mPl_nn _ _)).mpr z)), if_neg (by rw [hcan]; decide)]; exact zu_s X 0 0 3⟩))) (by show _ + 1 ≤ 9; omega) (by show _ + 6 ≤ 700; omega) (fun _ H locs hx_17 hT _ _ hS => ?_)
        cases hx_17
      · refine lv_aload hx hb dX1_fit_59 (lv_at hl 0 rfl) ?_
        refine zt_getN hx hb hts in_X4 hown hK.1 hT (hY.p hq_8) rfl 6 (by decide) (va_Nw.use (A := args) rfl (hK.2.1.1 _ _ _ _ _ _ q395)) (fun _ h => h) rfl dX1_fit_61 ?_
        refine zl_ifne (tgt := 79) hx hb dX1_fit_64 (by decide) (fun c_18 => ?_) (fun c_18 => ?_)
        · refine lv_iconst (v := 0) hx hb dX1_fit_79 (by decide) ?_
          refine zm_topi (y := zb false) rfl ?_
          refine zxc_v (zxr_S (As := [.int (zb false)]) (rest := []) ⟨hx, hb, hml, hown, hts⟩ (ct_X1_needState l hl0 g A _ false) zn_X1_needState (lw_S q338 q339 q39 q340) (by decide) (by decide) hK (fun _ h => h) hS hT rfl hl.1 (Nat.le_of_ble_eq_true rfl) dX1_fit_80 ⟨by show _ + 1 ≤ _; omega, by show _ + 6 ≤ _; omega⟩) hS hout hlocks (fun E hE => by obtain ⟨rfl, h0⟩ := hE; first | exact absurd h0 (by decide) | (have hcan : mCan X x.toNatClampNeg y.toNatClampNeg = false := (by unfold mCan; rw [← hCt.1 _ hh _ hp]; have hab := zabs hMd hp hh; simp [c_10, of_decide_eq_true c_14, c_16, of_decide_eq_true c_18] <;> (have hab2 := hab.mp (by assumption); exact fun z => hab2.resolve_left (Int32.not_lt.mpr z))); exact Or.inr (Or.inr ⟨rfl, by unfold m_fit; rw [if_neg (by rw [hm_2, hm_6]; decide), if_neg (fun z => c_10 ((zgt_nn (mPl_nn _ _)).mpr z)), if_neg (by rw [hcan]; decide)]; exact zu_s X 0 0 3⟩))) (by show _ + 1 ≤ 9; omega) (by show _ + 6 ≤ 700; omega) (fun _ H locs hx_19 hT _ _ hS => ?_)
          cases hx_19
        · refine lv_aload hx hb dX1_fit_67 (lv_at hl 0 rfl) ?_
          refine zc_i (zr_V (As := []) (rest := []) ⟨hx, hb, hml, hown, hts⟩ (ct_X4_isBound l g A S X _ hY hI y.toNatClampNeg hq_8 hz12) zn_X4_isBound (lw_V q547 q548 q549 q54 q550) rfl (by decide) (by decide) hK (fun _ h => h) hS hT (zt_recv hK.1 hT (hY.p hq_8) rfl) rfl hl.1 (Nat.le_of_ble_eq_true rfl) dX1_fit_69 ⟨by show _ + 0 ≤ _; omega, by show _ + 0 ≤ _; omega⟩) hS (fun _ h => h) (fun r _ H locs hr_20 hT _ _ hS => ?_)
          subst hr_20
          refine lv_if_ne (tgt := 79) hx hb dX1_fit_72 (by decide) (fun c_21 => ?_) (fun c_21 => ?_)
          · refine lv_iconst (v := 0) hx hb dX1_fit_79 (by decide) ?_
            refine zm_topi (y := zb false) rfl ?_
            refine zxc_v (zxr_S (As := [.int (zb false)]) (rest := []) ⟨hx, hb, hml, hown, hts⟩ (ct_X1_needState l hl0 g A _ false) zn_X1_needState (lw_S q338 q339 q39 q340) (by decide) (by decide) hK (fun _ h => h) hS hT rfl hl.1 (Nat.le_of_ble_eq_true rfl) dX1_fit_80 ⟨by show _ + 1 ≤ _; omega, by show _ + 6 ≤ _; omega⟩) hS hout hlocks (fun E hE => by obtain ⟨rfl, h0⟩ := hE; first | exact absurd h0 (by decide) | (have hcan : mCan X x.toNatClampNeg y.toNatClampNeg = false := (by unfold mCan; rw [← hCt.1 _ hh _ hp]; have hab := zabs hMd hp hh; simp [c_10, of_decide_eq_true c_14, c_16, of_decide_eq_false c_18, c_21] <;> (have hab2 := hab.mp (by assumption); exact fun z => hab2.resolve_left (Int32.not_lt.mpr z))); exact Or.inr (Or.inr ⟨rfl, by unfold m_fit; rw [if_neg (by rw [hm_2, hm_6]; decide), if_neg (fun z => c_10 ((zgt_nn (mPl_nn _ _)).mpr z)), if_neg (by rw [hcan]; decide)]; exact zu_s X 0 0 3⟩))) (by show _ + 1 ≤ 9; omega) (by show _ + 6 ≤ 700; omega) (fun _ H locs hx_22 hT _ _ hS => ?_)
            cases hx_22
          · refine lv_iconst (v := 1) hx hb dX1_fit_75 (by decide) ?_
            refine lv_goto (tgt := 80) hx hb dX1_fit_76 (by decide) ?_
            refine zm_topi (y := zb true) rfl ?_
            refine zxc_v (zxr_S (As := [.int (zb true)]) (rest := []) ⟨hx, hb, hml, hown, hts⟩ (ct_X1_needState l hl0 g A _ true) zn_X1_needState (lw_S q338 q339 q39 q340) (by decide) (by decide) hK (fun _ h => h) hS hT rfl hl.1 (Nat.le_of_ble_eq_true rfl) dX1_fit_80 ⟨by show _ + 1 ≤ _; omega, by show _ + 6 ≤ _; omega⟩) hS hout hlocks (fun E hE => by obtain ⟨rfl, h0⟩ := hE; first | exact absurd h0 (by decide) | (have hcan : mCan X x.toNatClampNeg y.toNatClampNeg = false := (by unfold mCan; rw [← hCt.1 _ hh _ hp]; have hab := zabs hMd hp hh; simp [c_10, of_decide_eq_true c_14, c_16, of_decide_eq_false c_18, c_21] <;> (have hab2 := hab.mp (by assumption); exact fun z => hab2.resolve_left (Int32.not_lt.mpr z))); exact Or.inr (Or.inr ⟨rfl, by unfold m_fit; rw [if_neg (by rw [hm_2, hm_6]; decide), if_neg (fun z => c_10 ((zgt_nn (mPl_nn _ _)).mpr z)), if_neg (by rw [hcan]; decide)]; exact zu_s X 0 0 3⟩))) (by show _ + 1 ≤ 9; omega) (by show _ + 6 ≤ 700; omega) (fun _ H locs hx_23 hT _ _ hS => ?_)
            refine lv_aload hx hb dX1_fit_83 (lv_at hl 0 rfl) ?_
            refine lv_aload_n hx hb dX1_fit_85 rfl (lv_at hl 1 rfl) ?_
            refine zt_getN hx hb hts in_X4 hown hK.1 hT (hY.p hq_4) rfl 1 (by decide) (va_Nw.use (A := args) rfl (hK.2.1.1 _ _ _ _ _ _ q385)) (fun _ h => h) rfl dX1_fit_86 ?_
            refine zc_i (zr_V (As := [.int (X 2 x.toNatClampNeg)]) (rest := []) ⟨hx, hb, hml, hown, hts⟩ (ct_X4_count l g A S X _ hY hC y.toNatClampNeg hq_8 (X 2 x.toNatClampNeg)) zn_X4_count (lw_V q556 q557 q558 q54 q559) rfl (by decide) (by decide) hK (fun _ h => h) hS hT (zt_recv hK.1 hT (hY.p hq_8) rfl) rfl hl.1 (Nat.le_of_ble_eq_true rfl) dX1_fit_89 ⟨by show _ + 0 ≤ _; omega, by show _ + 0 ≤ _; omega⟩) hS (fun _ h => h) (fun r _ H locs hr_24 hT _ _ hS => ?_)
            subst hr_24
            refine lv_aload hx hb dX1_fit_92 (lv_at hl 0 rfl) ?_
            refine lv_aload_n hx hb dX1_fit_94 rfl (lv_at hl 1 rfl) ?_
            refine zt_getN hx hb hts in_X4 hown hK.1 hT (hY.p hq_4) rfl 1 (by decide) (va_Nw.use (A := args) rfl (hK.2.1.1 _ _ _ _ _ _ q385)) (fun _ h => h) rfl dX1_fit_95 ?_
            refine zc_i (zr_V (As := [.int (X 2 x.toNatClampNeg)]) (rest := [.int (nI ((S.K y.toNatClampNeg).countP (fun q => decide (X 2 q = (X 2 x.toNatClampNeg)))))]) ⟨hx, hb, hml, hown, hts⟩ (ct_X4_places l g A S X _ hY hI y.toNatClampNeg hq_8 (X 2 x.toNatClampNeg)) zn_X4_places (lw_V q539 q540 q541 q54 q542) rfl (by decide) (by decide) hK (fun _ h => h) hS hT (zt_recv hK.1 hT (hY.p hq_8) rfl) rfl hl.1 (Nat.le_of_ble_eq_true rfl) dX1_fit_98 ⟨by show _ + 0 ≤ _; omega, by show _ + 0 ≤ _; omega⟩) hS (fun _ h => h) (fun r _ H locs hr_25 hT _ _ hS => ?_)
            subst hr_25
            refine lv_icmp_ge (tgt := 125) hx hb dX1_fit_101 (by decide) (fun c_26 => ?_) (fun c_26 => ?_)
            · refine lv_iconst (v := 0) hx hb dX1_fit_125 (by decide) ?_
              refine zm_topi (y := zb false) rfl ?_
              refine zxc_v (zxr_S (As := [.int (zb false)]) (rest := []) ⟨hx, hb, hml, hown, hts⟩ (ct_X1_needState l hl0 g A _ false) zn_X1_needState (lw_S q338 q339 q39 q340) (by decide) (by decide) hK (fun _ h => h) hS hT rfl hl.1 (Nat.le_of_ble_eq_true rfl) dX1_fit_126 ⟨by show _ + 1 ≤ _; omega, by show _ + 6 ≤ _; omega⟩) hS hout hlocks (fun E hE => by obtain ⟨rfl, h0⟩ := hE; first | exact absurd h0 (by decide) | (have hcan : mCan X x.toNatClampNeg y.toNatClampNeg = false := (by unfold mCan; rw [← hCt.1 _ hh _ hp]; have hab := zabs hMd hp hh; simp [c_10, of_decide_eq_true c_14, c_16, of_decide_eq_false c_18, c_21, c_26] <;> (have hab2 := hab.mp (by assumption); exact fun z => hab2.resolve_left (Int32.not_lt.mpr z))); exact Or.inr (Or.inr ⟨rfl, by unfold m_fit; rw [if_neg (by rw [hm_2, hm_6]; decide), if_neg (fun z => c_10 ((zgt_nn (mPl_nn _ _)).mpr z)), if_neg (by rw [hcan]; decide)]; exact zu_s X 0 0 3⟩))) (by show _ + 1 ≤ 9; omega) (by show _ + 6 ≤ 700; omega) (fun _ H locs hx_27 hT _ _ hS => ?_)
              cases hx_27
            · refine lv_aload_n hx hb dX1_fit_104 rfl (lv_at hl 1 rfl) ?_
              refine zt_getN hx hb hts in_X4 hown hK.1 hT (hY.p hq_4) rfl 3 (by decide) (va_Nw.use (A := args) rfl (hK.2.1.1 _ _ _ _ _ _ q389)) (fun _ h => h) rfl dX1_fit_105 ?_
              refine lv_aload hx hb dX1_fit_108 (lv_at hl 0 rfl) ?_
              refine zt_getN hx hb hts in_X4 hown hK.1 hT (hY.p hq_8) rfl 3 (by decide) (va_Nw.use (A := args) rfl (hK.2.1.1 _ _ _ _ _ _ q389)) (fun _ h => h) rfl dX1_fit_110 ?_
              refine lv_isub hx hb dX1_fit_113 ?_
              refine va_mabs hx hb (by rw [hml]; exact hl.1.symm) hown (hts _ q562) (hts _ q563) (hts _ q45) (hts _ q564) (Nat.le_of_ble_eq_true rfl) (Nat.le_of_ble_eq_true rfl) (by show _ ≤ 9; omega) (by show _ ≤ 700; omega) dX1_fit_114 ?_
              refine lv_iconst (v := 1) hx hb dX1_fit_117 (by decide) ?_
              refine lv_icmp_gt (tgt := 125) hx hb dX1_fit_118 (by decide) (fun c_28 => ?_) (fun c_28 => ?_)
              · refine lv_iconst (v := 0) hx hb dX1_fit_125 (by decide) ?_
                refine zm_topi (y := zb false) rfl ?_
                refine zxc_v (zxr_S (As := [.int (zb false)]) (rest := []) ⟨hx, hb, hml, hown, hts⟩ (ct_X1_needState l hl0 g A _ false) zn_X1_needState (lw_S q338 q339 q39 q340) (by decide) (by decide) hK (fun _ h => h) hS hT rfl hl.1 (Nat.le_of_ble_eq_true rfl) dX1_fit_126 ⟨by show _ + 1 ≤ _; omega, by show _ + 6 ≤ _; omega⟩) hS hout hlocks (fun E hE => by obtain ⟨rfl, h0⟩ := hE; first | exact absurd h0 (by decide) | (have hcan : mCan X x.toNatClampNeg y.toNatClampNeg = false := (by unfold mCan; rw [← hCt.1 _ hh _ hp]; have hab := zabs hMd hp hh; simp [c_10, of_decide_eq_true c_14, c_16, of_decide_eq_false c_18, c_21, c_26, c_28] <;> (have hab2 := hab.mp (by assumption); exact fun z => hab2.resolve_left (Int32.not_lt.mpr z))); exact Or.inr (Or.inr ⟨rfl, by unfold m_fit; rw [if_neg (by rw [hm_2, hm_6]; decide), if_neg (fun z => c_10 ((zgt_nn (mPl_nn _ _)).mpr z)), if_neg (by rw [hcan]; decide)]; exact zu_s X 0 0 3⟩))) (by show _ + 1 ≤ 9; omega) (by show _ + 6 ≤ 700; omega) (fun _ H locs hx_29 hT _ _ hS => ?_)
                cases hx_29
              · refine lv_iconst (v := 1) hx hb dX1_fit_121 (by decide) ?_
                refine lv_goto (tgt := 126) hx hb dX1_fit_122 (by decide) ?_
                refine zm_topi (y := zb true) rfl ?_
                refine zxc_v (zxr_S (As := [.int (zb true)]) (rest := []) ⟨hx, hb, hml, hown, hts⟩ (ct_X1_needState l hl0 g A _ true) zn_X1_needState (lw_S q338 q339 q39 q340) (by decide) (by decide) hK (fun _ h => h) hS hT rfl hl.1 (Nat.le_of_ble_eq_true rfl) dX1_fit_126 ⟨by show _ + 1 ≤ _; omega, by show _ + 6 ≤ _; omega⟩) hS hout hlocks (fun E hE => by obtain ⟨rfl, h0⟩ := hE; first | exact absurd h0 (by decide) | (have hcan : mCan X x.toNatClampNeg y.toNatClampNeg = false := (by unfold mCan; rw [← hCt.1 _ hh _ hp]; have hab := zabs hMd hp hh; simp [c_10, of_decide_eq_true c_14, c_16, of_decide_eq_false c_18, c_21, c_26, c_28] <;> (have hab2 := hab.mp (by assumption); exact fun z => hab2.resolve_left (Int32.not_lt.mpr z))); exact Or.inr (Or.inr ⟨rfl, by unfold m_fit; rw [if_neg (by rw [hm_2, hm_6]; decide), if_neg (fun z => c_10 ((zgt_nn (mPl_nn _ _)).mpr z)), if_neg (by rw [hcan]; decide)]; exact zu_s X 0 0 3⟩))) (by show _ + 1 ≤ 9; omega) (by show _ + 6 ≤ 700; omega) (fun _ H locs hx_30 hT _ _ hS => ?_)
                refine lv_aload hx hb dX1_fit_129 (lv_at hl 0 rfl) ?_
                refine zt_getN hx hb hts in_X4 hown hK.1 hT (hY.p hq_8) rfl 5 (by decide) (va_Nw.use (A := args) rfl (hK.2.1.1 _ _ _ _ _ _ q393)) (fun _ h => h) rfl dX1_fit_131 ?_
                refine lv_aload_n hx hb dX1_fit_134 rfl (lv_at hl 1 rfl) ?_
                refine zc_i (zr_V (As := [.ref (S.pa x.toNatClampNeg)]) (rest := []) ⟨hx, hb, hml, hown, hts⟩ (ct_J2_add l g A T _ (S.mu (23 + 4 * y.toNatClampNeg)) _ (hY.k hq_8) (some (S.pa x.toNatClampNeg)) (by simp; have := (hC _ hh).1; omega) (hY.elK hC hh) (hY.elP hp)) zn_J2_add (lw_V q115 q116 q117 q43 q118) rfl (by decide) (by decide) hK (fun _ h => h) hS hT (zt_recvL hK.1 hT (hY.k hq_8)) rfl hl.1 (Nat.le_of_ble_eq_true rfl) dX1_fit_135 ⟨by show _ + 1 ≤ _; omega, by show _ + 160 ≤ _; omega⟩) hS (fun _ h => h) (fun r _ H locs hr1 hT _ _ hS => ?_)
                subst hr1
                obtain ⟨T, hT, hY⟩ : ∃ T1, zTH g A T1 H ∧ zSy (S.kS y.toNatClampNeg (S.K y.toNatClampNeg ++ [x.toNatClampNeg])) g X T1 := ⟨_, hT, hY.kS hh _ (by rw [List.map_append]; rfl)⟩
                refine lv_pop hx hb dX1_fit_138 rfl ?_
                refine lv_aload_n hx hb dX1_fit_139 rfl (lv_at hl 1 rfl) ?_
                refine zt_getN hx hb hts in_X4 hown hK.1 hT (hY.p hq_4) rfl 4 (by decide) (va_Nw.use (A := args) rfl (hK.2.1.1 _ _ _ _ _ _ q391)) (fun _ h => h) rfl dX1_fit_140 ?_
                refine lv_aload hx hb dX1_fit_143 (lv_at hl 0 rfl) ?_
                have hy0 : ¬ y < 0 := by rw [hye]; exact nI_pos (by have := hI.1.2; omega)
                have hx5 : X 5 x.toNatClampNeg = -1 := of_decide_eq_true c_14
                have hmp : ¬ mPl (X 2 y.toNatClampNeg) (X 2 x.toNatClampNeg) = 0 := fun z => c_10 ((zgt_nn (mPl_nn _ _)).mpr z)
                have hI1 : MH (zu X 5 x.toNatClampNeg y) := hI.five (Or.inr (Or.inr ⟨y.toNatClampNeg, hye, hh, mPl_lt hI hp hh hmp⟩))
                refine zc_v (zr_V (As := [.ref (S.pa y.toNatClampNeg)]) (rest := []) ⟨hx, hb, hml, hown, hts⟩ (ct_X5_become l g A T _ _ _ _ _ (some (S.pa y.toNatClampNeg)) (hY.t hq_4) (hY.l hq_4) (by simp; exact (hO _ hp).1) (hY.elT hO hq_4) (hY.elP hq_8)) zn_X5_become (lw_V q565 q566 q567 q55 q568) rfl (by decide) (by decide) hK (fun _ h => h) hS hT (zt_recv hK.1 hT (hY.t hq_4) rfl) rfl hl.1 (Nat.le_of_ble_eq_true rfl) dX1_fit_145 ⟨by show _ + 1 ≤ _; omega, by show _ + 160 ≤ _; omega⟩) hS (fun _ h => h) (fun _ H locs _ hT _ _ hS => ?_)
                obtain ⟨T, hT, hY⟩ : ∃ T1, zTH g A T1 H ∧ zSy ((S.kS y.toNatClampNeg (S.K y.toNatClampNeg ++ [x.toNatClampNeg])).tA x.toNatClampNeg (some y.toNatClampNeg)) g (zu X 5 x.toNatClampNeg y) T1 := ⟨_, hT, (hY.now hq_4 y (by rw [hx5]; have : ¬ y = -2 := fun z => hy0 (by rw [z]; decide); simp [this]) (by unfold znw mH; rw [zu_s, if_neg hy0]; rfl)).tA hq_4 (some y.toNatClampNeg) rfl⟩
                refine lv_aload hx hb dX1_fit_148 (lv_at hl 0 rfl) ?_
                refine zc_q (zr_V (As := []) (rest := []) ⟨hx, hb, hml, hown, hts⟩ (ct_X4_head l g A ((S.kS y.toNatClampNeg (S.K y.toNatClampNeg ++ [x.toNatClampNeg])).tA x.toNatClampNeg (some y.toNatClampNeg)) (zu X 5 x.toNatClampNeg y) _ hY hI1 y.toNatClampNeg hh) zn_X4_head (lw_V q570 q552 q553 q54 q554) rfl (by decide) (by decide) hK (fun _ h => h) hS hT (zt_recv hK.1 hT (hY.p hh) rfl) rfl hl.1 (Nat.le_of_ble_eq_true rfl) dX1_fit_150 ⟨by show _ + 0 ≤ _; omega, by show _ + 0 ≤ _; omega⟩) hS (fun _ h => h) (fun r _ H locs hr1 hT _ _ hS => ?_)
                subst hr1
                have hmh : mHd (zu X 5 x.toNatClampNeg y) y.toNatClampNeg < mN (zu X 5 x.toNatClampNeg y) := mHd_lt hI1 hh
                refine zm_top (v' := .ref (((S.kS y.toNatClampNeg (S.K y.toNatClampNeg ++ [x.toNatClampNeg])).tA x.toNatClampNeg (some y.toNatClampNeg)).pa (mHd (zu X 5 x.toNatClampNeg y) y.toNatClampNeg))) rfl ?_
                refine lv_iconst (v := 0) hx hb dX1_fit_153 (by decide) ?_
                refine zt_putN hx hb hts in_X4 tyX4 tyX4_ok nmX4 hown hK.1 hT hS (hY.p hmh) rfl 18 (by decide) (va_Nw.use (A := args) rfl (hK.2.1.1 _ _ _ _ _ _ q416)) (fun _ h => h) rfl (v := .int 0) (tyX4_ok 18 (by decide)) (zm_nz (Or.inl rfl)) rfl (show 18 < 20 from by decide) dX1_fit_154 (fun H locs hT hS => ?_)
                obtain ⟨T, hT, hY⟩ : ∃ T1, zTH g A T1 H ∧ zSy ((S.kS y.toNatClampNeg (S.K y.toNatClampNeg ++ [x.toNatClampNeg])).tA x.toNatClampNeg (some y.toNatClampNeg)) g (zu (zu X 5 x.toNatClampNeg y) 11 (mHd (zu X 5 x.toNatClampNeg y) y.toNatClampNeg) 0) T1 := ⟨_, hT, hY.pw hmh 11 0 rfl (zpF_s ((S.kS y.toNatClampNeg (S.K y.toNatClampNeg ++ [x.toNatClampNeg])).tA x.toNatClampNeg (some y.toNatClampNeg)) (zu X 5 x.toNatClampNeg y) 18 11 (mHd (zu X 5 x.toNatClampNeg y) y.toNatClampNeg) _ (by decide))⟩
                refine lv_aload_n hx hb dX1_fit_157 rfl (lv_at hl 2 rfl) ?_
                refine zt_get hx hb hts in_X1 hown hK.1 hT hY.w rfl 4 (by decide) (hts _ q181) (fun _ h => h) rfl dX1_fit_158 ?_
                refine zt_new hx hb hts in_X6 tyX6 tyX6_ok hown (hts _ q571) (hts _ q572) (hts _ q61) hK.1 hT hS (ci := 5) rfl (fs := [.null, .null, .int 0]) (by decide) (by show _ + 1 ≤ 9; omega) (by show _ + 3 ≤ 700; omega) dX1_fit_161 (fun q H hqn hT hS => ?_)
                refine lv_dup hx hb dX1_fit_164 rfl ?_
                refine lv_aload_n hx hb dX1_fit_165 rfl (lv_at hl 1 rfl) ?_
                refine lv_aload hx hb dX1_fit_166 (lv_at hl 0 rfl) ?_
                refine lv_iconst (v := 0) hx hb dX1_fit_168 (by decide) ?_
                refine zc_v (zr_I (As := [.ref (S.pa x.toNatClampNeg), .ref (S.pa y.toNatClampNeg), .int 0]) (rest := [.ref q, .ref (((S.kS y.toNatClampNeg (S.K y.toNatClampNeg ++ [x.toNatClampNeg])).tA x.toNatClampNeg (some y.toNatClampNeg)).A 6)]) ⟨hx, hb, hml, hown, hts⟩ (ct_X6_init l g A _ q (S.pa x.toNatClampNeg) (some (S.pa y.toNatClampNeg)) 0 (va_up_self _ _ _)) zn_X6_init q575 q61 q573 q574 rfl (by decide) (by decide) hK (fun _ h => h) hS hT rfl hl.1 (Nat.le_of_ble_eq_true rfl) dX1_fit_169 ⟨by show _ + 0 ≤ _; omega, by show _ + 0 ≤ _; omega⟩) hS (fun _ h => h) (fun _ H locs _ hT _ _ hS => ?_)
                rw [zup_up] at hT
                obtain ⟨T, hT, hY, hnew⟩ : ∃ T1, zTH g A T1 H ∧ zSy ((S.kS y.toNatClampNeg (S.K y.toNatClampNeg ++ [x.toNatClampNeg])).tA x.toNatClampNeg (some y.toNatClampNeg)) g (zu (zu X 5 x.toNatClampNeg y) 11 (mHd (zu X 5 x.toNatClampNeg y) y.toNatClampNeg) 0) T1 ∧ T1 q = some (.inl (zo 5 [.ref (S.pa x.toNatClampNeg), va_rf (some (S.pa y.toNatClampNeg)), .int 0])) := ⟨_, hT, hY.fresh hqn _, va_up_self _ _ _⟩
                refine zc_i (zr_V (As := [.ref q]) (rest := []) ⟨hx, hb, hml, hown, hts⟩ (ct_J2_add l g A T _ (((S.kS y.toNatClampNeg (S.K y.toNatClampNeg ++ [x.toNatClampNeg])).tA x.toNatClampNeg (some y.toNatClampNeg)).mu 6) _ hY.lg (some q) (by rw [List.length_map]; exact Nat.le_succ_of_le hL.1) hY.elL (fun v hv => by cases hv; exact Or.inl ⟨5, _, hnew, by omega⟩)) zn_J2_add (lw_V q115 q116 q117 q43 q118) rfl (by decide) (by decide) hK (fun _ h => h) hS hT (zt_recvL hK.1 hT hY.lg) rfl hl.1 (Nat.le_of_ble_eq_true rfl) dX1_fit_172 ⟨by show _ + 1 ≤ _; omega, by show _ + 160 ≤ _; omega⟩) hS (fun _ h => h) (fun r _ H locs hr1 hT _ _ hS => ?_)
                subst hr1
                obtain ⟨T, hT, hY⟩ : ∃ T1, zTH g A T1 H ∧ zSy (((S.kS y.toNatClampNeg (S.K y.toNatClampNeg ++ [x.toNatClampNeg])).tA x.toNatClampNeg (some y.toNatClampNeg)).lA (q, x.toNatClampNeg, some y.toNatClampNeg, 0)) g (zu (zu X 5 x.toNatClampNeg y) 11 (mHd (zu X 5 x.toNatClampNeg y) y.toNatClampNeg) 0) T1 := ⟨_, hT, hY.lA (q, x.toNatClampNeg, some y.toNatClampNeg, 0) hnew rfl⟩
                refine lv_pop hx hb dX1_fit_175 rfl ?_
                refine lv_aload hx hb dX1_fit_176 (lv_at hl 0 rfl) ?_
                refine zt_getN hx hb hts in_X4 hown hK.1 hT (hY.p hq_8) rfl 5 (by decide) (va_Nw.use (A := args) rfl (hK.2.1.1 _ _ _ _ _ _ q393)) (fun _ h => h) rfl dX1_fit_178 ?_
                refine zc_i (zr_V (As := []) (rest := []) ⟨hx, hb, hml, hown, hts⟩ (ct_J2_size l g A T _ ((((S.kS y.toNatClampNeg (S.K y.toNatClampNeg ++ [x.toNatClampNeg])).tA x.toNatClampNeg (some y.toNatClampNeg)).lA (q, x.toNatClampNeg, some y.toNatClampNeg, 0)).mu (23 + 4 * y.toNatClampNeg)) _ (hY.k hq_8)) zn_J2_size (lw_V q225 q226 q227 q43 q228) rfl (by decide) (by decide) hK (fun _ h => h) hS hT (zt_recvL hK.1 hT (hY.k hq_8)) rfl hl.1 (Nat.le_of_ble_eq_true rfl) dX1_fit_181 ⟨by show _ + 0 ≤ _; omega, by show _ + 0 ≤ _; omega⟩) hS (fun _ h => h) (fun r _ H locs hr1 hT _ _ hS => ?_)
                subst hr1
                refine zm_topi (y := nI (((((S.kS y.toNatClampNeg (S.K y.toNatClampNeg ++ [x.toNatClampNeg])).tA x.toNatClampNeg (some y.toNatClampNeg)).lA (q, x.toNatClampNeg, some y.toNatClampNeg, 0)).K y.toNatClampNeg).length)) (by first | (simp; done) | exact congrArg nI (List.length_map _)) ?_
                have hxm := hCt.2.2 _ _ hp hh hx5
                refine zm_topi (y := nI (mIn (m_moves (zu X 0 0 0) x.toNatClampNeg y) y (-1))) (by rw [show mIn (m_moves (zu X 0 0 0) x.toNatClampNeg y) y (-1) = (S.K y.toNatClampNeg).length + 1 from by rw [hxm, ← hye]]; show nI (va_up S.K y.toNatClampNeg _ y.toNatClampNeg).length = _; rw [va_up_self, List.length_append]; rfl) ?_
                have hcan : mCan X x.toNatClampNeg y.toNatClampNeg = true := by unfold mCan; rw [← hCt.1 _ hh _ hp]; have hab := zabs hMd hp hh; have hab2 := not_or.mp (fun z => c_28 (hab.mpr z)); simp [c_10, of_decide_eq_true c_14, c_16, of_decide_eq_false c_18, c_21, c_26, c_28, hab2.1, hab2.2]
                have e1 : m_fit X x y = (nI (mIn (m_moves (zu X 0 0 0) x.toNatClampNeg y) y (-1)), m_ends (m_moves (zu X 0 0 0) x.toNatClampNeg y) x.toNatClampNeg) := by unfold m_fit; rw [if_neg (by rw [hm_2, hm_6]; decide), if_neg hmp, if_pos hcan]
                have e00 : (m_fit X x y).2 0 0 = 0 := by rw [e1]; show m_ends (m_moves (zu X 0 0 0) x.toNatClampNeg y) x.toNatClampNeg 0 0 = 0; rw [m_ends_00, m_moves_00]; exact zu_s X 0 0 0
                have hhd : mHd (m_moves (zu X 0 0 0) x.toNatClampNeg y) x.toNatClampNeg = mHd (zu X 5 x.toNatClampNeg y) y.toNatClampNeg := by rw [mHd_cg (m_moves_row X x.toNatClampNeg y (by decide) (by decide))]; have hz5 : ¬ (zu X 5 x.toNatClampNeg y) 5 x.toNatClampNeg < 0 := (by rw [zu_s]; exact hy0); rw [mHd_host hI1 hp hz5]; unfold mH; rw [zu_s]
                exact vx_ret (ze_i hx hb hr hlocks hS dX1_fit_184 (by show _ ≤ 9; omega) (by show _ ≤ 700; omega) ((((S.kS y.toNatClampNeg (S.K y.toNatClampNeg ++ [x.toNatClampNeg])).tA x.toNatClampNeg (some y.toNatClampNeg)).lA (q, x.toNatClampNeg, some y.toNatClampNeg, 0)), T) ⟨⟨by rw [e1], e00⟩, by rw [e1]; exact hY.hidR (fun k h0 h1 => m_ends_row hhd (m_moves_row X _ _ h0 h1)), q, rfl⟩ hT)
theorem zn_X1_take : zN yX1_take 1 := by decide +kernel
set_option maxHeartbeats 4000000 in
theorem ct_X1_take (l : Launch) (hl0 : l.stackTraces = false) (g : zG) (A : Nat → Prop) (S : zS) (X : zX) (T : zT) (hY : zSy S g X T) (hI : MH X) (hC : zKo S X) (hO : zTo S X) (hL : zLo S X) (hz12 : ∀ p, X 12 p = 0 ∨ X 12 p = 1) (hKm : ∀ p, p < mN X → ¬ X 5 p < 0 → p ∈ S.K (mH X p)) (x : Int32) : vx_Met l yX1_take (ws_ yX1_take cX1_take 4 (some .int)) (zR 9 9 700) (zP [.ref (S.A 0), .int x] g A (zTH g A T)) (va_Qi (fun rz_ (u : zS × zT) => (rz_ = (m_take X x).1 ∧ (m_take X x).2 0 0 = 0) ∧ zSy u.1 g (m_take X x).2 u.2 ∧ ∃ q, u.1 = ((S.kS (mH X x.toNatClampNeg) ((S.K (mH X x.toNatClampNeg)).erase x.toNatClampNeg)).tA x.toNatClampNeg none).lA (q, x.toNatClampNeg, none, 0)) (fun u t => zTH g A u.2 t.heap) A) (zXC (fun E => (E = xIO ∧ (m_take X x).2 0 0 = 1) ∨ (E = xIS ∧ (m_take X x).2 0 0 = 2)) g A T) 9 700 A := by
  refine zb_xmet (by decide) (Nat.le_of_ble_eq_true rfl) ?_
  intro p e s m args below meth c ls hx hb hr hml hown hts hlocks hnm hK hT ha_ hl hout
  have hown : s.vm.findClass RX1 = some m.cls := hown
  have hS : va_S A s.heap s.heap [] := va_S.rf
  have hl : lv_has ls 4 [(0, .ref (S.A 0)), (1, .int x)] := hl
  have hn60 := hI.1.2
  refine lv_aload_n hx hb dX1_take_0 rfl (lv_at hl 0 rfl) ?_
  refine zt_get hx hb hts in_X1 hown hK.1 hT hY.w rfl 0 (by decide) (hts _ q177) (fun _ h => h) rfl dX1_take_1 ?_
  refine lv_iload_n hx hb dX1_take_4 rfl (lv_at hl 1 rfl) ?_
  refine zxc_q (zxr_V (As := [.int x]) (rest := []) ⟨hx, hb, hml, hown, hts⟩ (ct_X2_need l hl0 g A S X _ hY hI x) zn_X2_need (lw_V q514 q515 q516 q40 q517) rfl (by decide) (by decide) hK (fun _ h => h) hS hT (zt_recv hK.1 hT hY.rk rfl) rfl hl.1 (Nat.le_of_ble_eq_true rfl) dX1_take_5 ⟨by show _ + 1 ≤ _; omega, by show _ + 6 ≤ _; omega⟩) hS hout hlocks (fun E hE => by obtain ⟨rfl, h0⟩ := hE; exact Or.inl ⟨rfl, by unfold m_take; rw [if_pos h0]; exact zu_s X 0 0 1⟩) (by show _ + 1 ≤ 9; omega) (by show _ + 6 ≤ 700; omega) (fun r _ H locs hr_1 hT _ _ hS => ?_)
  obtain ⟨rfl, hm_2⟩ := hr_1
  obtain ⟨hq_3, hq_4⟩ := mIs_p hI hm_2
  refine zm_top (v' := .ref (S.pa x.toNatClampNeg)) rfl ?_
  refine va_castS hx hb hown (hts _ q356) (hK.1.1 3 _ rfl).2 (zt_recv hK.1 hT (hY.p hq_4) (r := zCl[3]) rfl) dX1_take_8 ?_
  refine lv_astore_n (lv' := [(2, .ref (S.pa x.toNatClampNeg)), (0, .ref (S.A 0)), (1, .int x)]) hx hb dX1_take_11 rfl hl (by decide) rfl (fun ls hl => ?_)
  have hp := hq_4
  refine lv_aload_n hx hb dX1_take_12 rfl (lv_at hl 0 rfl) ?_
  refine zt_getN hx hb hts in_X4 hown hK.1 hT (hY.p hq_4) rfl 4 (by decide) (va_Nw.use (A := args) rfl (hK.2.1.1 _ _ _ _ _ _ q391)) (fun _ h => h) rfl dX1_take_13 ?_
  refine zt_getN hx hb hts in_X5 hown hK.1 hT (hY.t hq_4) rfl 1 (by decide) (va_Nw.use (A := args) rfl (hK.2.1.1 _ _ _ _ _ _ q374)) (fun _ h => h) rfl dX1_take_16 ?_
  rcases Classical.em (X 5 x.toNatClampNeg < 0) with hn | hn
  · refine zm_top (v' := .null) (by unfold znw; rw [if_pos hn]; rfl) ?_
    refine lv_castN hx hb dX1_take_19 ?_
    refine lv_astore_nN (lv' := [(3, .null), (2, .ref (S.pa x.toNatClampNeg)), (0, .ref (S.A 0)), (1, .int x)]) hx hb dX1_take_22 rfl hl (by decide) rfl (fun ls hl => ?_)
    refine lv_aload_nN hx hb dX1_take_23 rfl (lv_at hl 0 rfl) ?_
    refine lv_ifnullN (tgt := 38) hx hb dX1_take_24 (by decide) ?_
    refine lv_iconst (v := 0) hx hb dX1_take_38 (by decide) ?_
    refine zm_topi (y := zb false) rfl ?_
    refine zxc_v (zxr_S (As := [.int (zb false)]) (rest := []) ⟨hx, hb, hml, hown, hts⟩ (ct_X1_needState l hl0 g A _ false) zn_X1_needState (lw_S q338 q339 q39 q340) (by decide) (by decide) hK (fun _ h => h) hS hT rfl hl.1 (Nat.le_of_ble_eq_true rfl) dX1_take_39 ⟨by show _ + 1 ≤ _; omega, by show _ + 6 ≤ _; omega⟩) hS hout hlocks (fun E hE => by obtain ⟨rfl, h0⟩ := hE; first | exact absurd h0 (by decide) | exact Or.inr ⟨rfl, by unfold m_take; rw [if_neg (by rw [hm_2]; decide), if_pos (Or.inl hn)]; exact zu_s X 0 0 2⟩) (by show _ + 1 ≤ 9; omega) (by show _ + 6 ≤ 700; omega) (fun _ H locs hx_5 hT _ _ hS => ?_)
    cases hx_5
  · obtain ⟨hh1, hh2, hh3⟩ := hI.host hq_4 hn
    refine zm_top (v' := .ref (S.pa (mH X x.toNatClampNeg))) (by unfold znw; rw [if_neg hn]; rfl) ?_
    refine va_castS hx hb hown (hts _ q356) (hK.1.1 3 _ rfl).2 (zt_recv hK.1 hT (hY.p hh2) (r := zCl[3]) rfl) dX1_take_19 ?_
    refine lv_astore_n (lv' := [(3, .ref (S.pa (mH X x.toNatClampNeg))), (2, .ref (S.pa x.toNatClampNeg)), (0, .ref (S.A 0)), (1, .int x)]) hx hb dX1_take_22 rfl hl (by decide) rfl (fun ls hl => ?_)
    refine lv_aload_n hx hb dX1_take_23 rfl (lv_at hl 0 rfl) ?_
    refine lv_ifnull hx hb dX1_take_24 ?_
    refine lv_aload_n hx hb dX1_take_27 rfl (lv_at hl 1 rfl) ?_
    refine zc_i (zr_V (As := []) (rest := []) ⟨hx, hb, hml, hown, hts⟩ (ct_X4_isBound l g A S X _ hY hI x.toNatClampNeg hq_4 hz12) zn_X4_isBound (lw_V q547 q548 q549 q54 q550) rfl (by decide) (by decide) hK (fun _ h => h) hS hT (zt_recv hK.1 hT (hY.p hq_4) rfl) rfl hl.1 (Nat.le_of_ble_eq_true rfl) dX1_take_28 ⟨by show _ + 0 ≤ _; omega, by show _ + 0 ≤ _; omega⟩) hS (fun _ h => h) (fun r _ H locs hr_6 hT _ _ hS => ?_)
    subst hr_6
    refine lv_if_ne (tgt := 38) hx hb dX1_take_31 (by decide) (fun c_7 => ?_) (fun c_7 => ?_)
    · refine lv_iconst (v := 0) hx hb dX1_take_38 (by decide) ?_
      refine zm_topi (y := zb false) rfl ?_
      refine zxc_v (zxr_S (As := [.int (zb false)]) (rest := []) ⟨hx, hb, hml, hown, hts⟩ (ct_X1_needState l hl0 g A _ false) zn_X1_needState (lw_S q338 q339 q39 q340) (by decide) (by decide) hK (fun _ h => h) hS hT rfl hl.1 (Nat.le_of_ble_eq_true rfl) dX1_take_39 ⟨by show _ + 1 ≤ _; omega, by show _ + 6 ≤ _; omega⟩) hS hout hlocks (fun E hE => by obtain ⟨rfl, h0⟩ := hE; first | exact absurd h0 (by decide) | exact Or.inr ⟨rfl, by unfold m_take; rw [if_neg (by rw [hm_2]; decide), if_pos (Or.inr c_7)]; exact zu_s X 0 0 2⟩) (by show _ + 1 ≤ 9; omega) (by show _ + 6 ≤ 700; omega) (fun _ H locs hx_8 hT _ _ hS => ?_)
      cases hx_8
    · refine lv_iconst (v := 1) hx hb dX1_take_34 (by decide) ?_
      refine lv_goto (tgt := 39) hx hb dX1_take_35 (by decide) ?_
      refine zm_topi (y := zb true) rfl ?_
      refine zxc_v (zxr_S (As := [.int (zb true)]) (rest := []) ⟨hx, hb, hml, hown, hts⟩ (ct_X1_needState l hl0 g A _ true) zn_X1_needState (lw_S q338 q339 q39 q340) (by decide) (by decide) hK (fun _ h => h) hS hT rfl hl.1 (Nat.le_of_ble_eq_true rfl) dX1_take_39 ⟨by show _ + 1 ≤ _; omega, by show _ + 6 ≤ _; omega⟩) hS hout hlocks (fun E hE => by obtain ⟨rfl, h0⟩ := hE; first | exact absurd h0 (by decide) | exact Or.inr ⟨rfl, by unfold m_take; rw [if_neg (by rw [hm_2]; decide), if_pos (Or.inr c_7)]; exact zu_s X 0 0 2⟩) (by show _ + 1 ≤ 9; omega) (by show _ + 6 ≤ 700; omega) (fun _ H locs hx_9 hT _ _ hS => ?_)
      refine lv_aload_n hx hb dX1_take_42 rfl (lv_at hl 0 rfl) ?_
      refine zc_q (zr_V (As := []) (rest := []) ⟨hx, hb, hml, hown, hts⟩ (ct_X4_head l g A S X _ hY hI (mH X x.toNatClampNeg) hh2) zn_X4_head (lw_V q570 q552 q553 q54 q554) rfl (by decide) (by decide) hK (fun _ h => h) hS hT (zt_recv hK.1 hT (hY.p hh2) rfl) rfl hl.1 (Nat.le_of_ble_eq_true rfl) dX1_take_43 ⟨by show _ + 0 ≤ _; omega, by show _ + 0 ≤ _; omega⟩) hS (fun _ h => h) (fun r _ H locs hr_10 hT _ _ hS => ?_)
      subst hr_10
      refine zm_top (v' := .ref (S.pa (mHd X (mH X x.toNatClampNeg)))) rfl ?_
      have hm_11 : mHd X (mH X x.toNatClampNeg) < mN X := mHd_lt hI hh2
      refine lv_iconst (v := 0) hx hb dX1_take_46 (by decide) ?_
      refine zt_putN hx hb hts in_X4 tyX4 tyX4_ok nmX4 hown hK.1 hT hS (hY.p hm_11) rfl 18 (by decide) (va_Nw.use (A := args) rfl (hK.2.1.1 _ _ _ _ _ _ q416)) (fun _ h => h) rfl (v := .int 0) (tyX4_ok 18 (by decide)) (zm_nz (Or.inl rfl)) rfl (show 18 < 20 from by decide) dX1_take_47 (fun H locs hT hS => ?_)
      obtain ⟨T, hT, hY⟩ : ∃ T1, zTH g A T1 H ∧ zSy S g (zu X 11 (mHd X (mH X x.toNatClampNeg)) 0) T1 := ⟨_, hT, hY.pw hm_11 11 0 rfl (zpF_s S X 18 11 (mHd X (mH X x.toNatClampNeg)) _ (by decide))⟩
      refine lv_aload_n hx hb dX1_take_50 rfl (lv_at hl 0 rfl) ?_
      refine zt_getN hx hb hts in_X4 hown hK.1 hT (hY.p hh2) rfl 5 (by decide) (va_Nw.use (A := args) rfl (hK.2.1.1 _ _ _ _ _ _ q393)) (fun _ h => h) rfl dX1_take_51 ?_
      refine lv_aload_n hx hb dX1_take_54 rfl (lv_at hl 1 rfl) ?_
      obtain ⟨i0, hi1, hi2, hi3⟩ := zfirst (hKm _ hp hn)
      refine zc_i (zr_V (As := [.ref (S.pa x.toNatClampNeg)]) (rest := []) ⟨hx, hb, hml, hown, hts⟩ (ct_J2_remove l g A T _ _ _ (hY.k hh2) i0 (S.pa x.toNatClampNeg) 3 _ (by rw [List.getElem?_map, hi1]; rfl) (fun j hj z => by rw [List.getElem?_map] at z; obtain ⟨q, hq, hq2⟩ := Option.map_eq_some_iff.mp z; have hqm := (hC _ hh2).2 q (List.mem_of_getElem? hq); have := hY.pinj hqm hp (Option.some.inj hq2); rw [this] at hq; exact hi2 j hj hq) (hY.p hp) (Or.inl rfl) (hY.elK hC hh2)) zn_J2_remove (lw_V q597 q598 q599 q43 q600) rfl (by decide) (by decide) hK (fun _ h => h) hS hT (zt_recvL hK.1 hT (hY.k hh2)) rfl hl.1 (Nat.le_of_ble_eq_true rfl) dX1_take_55 ⟨by show _ + 0 ≤ _; omega, by show _ + 0 ≤ _; omega⟩) hS (fun _ h => h) (fun r _ H locs hr1 hT _ _ hS => ?_)
      subst hr1
      obtain ⟨T, hT, hY⟩ : ∃ T1, zTH g A T1 H ∧ zSy (S.kS (mH X x.toNatClampNeg) ((S.K (mH X x.toNatClampNeg)).erase x.toNatClampNeg)) g (zu X 11 (mHd X (mH X x.toNatClampNeg)) 0) T1 := ⟨_, hT, hY.kS hh2 _ (by rw [map_eraseIdx, hi3])⟩
      refine lv_pop hx hb dX1_take_58 rfl ?_
      refine lv_aload_n hx hb dX1_take_59 rfl (lv_at hl 1 rfl) ?_
      refine zt_getN hx hb hts in_X4 hown hK.1 hT (hY.p hq_4) rfl 4 (by decide) (va_Nw.use (A := args) rfl (hK.2.1.1 _ _ _ _ _ _ q391)) (fun _ h => h) rfl dX1_take_60 ?_
      refine lv_null hx hb dX1_take_63 ?_
      refine zc_v (zr_V (As := [.null]) (rest := []) ⟨hx, hb, hml, hown, hts⟩ (ct_X5_become l g A T _ _ _ _ _ none (hY.t hq_4) (hY.l hq_4) (by simp; exact (hO _ hp).1) (hY.elT hO hq_4) (fun v hv => by cases hv)) zn_X5_become (lw_V q565 q566 q567 q55 q568) rfl (by decide) (by decide) hK (fun _ h => h) hS hT (zt_recv hK.1 hT (hY.t hq_4) rfl) rfl hl.1 (Nat.le_of_ble_eq_true rfl) dX1_take_64 ⟨by show _ + 1 ≤ _; omega, by show _ + 160 ≤ _; omega⟩) hS (fun _ h => h) (fun _ H locs _ hT _ _ hS => ?_)
      obtain ⟨T, hT, hY⟩ : ∃ T1, zTH g A T1 H ∧ zSy ((S.kS (mH X x.toNatClampNeg) ((S.K (mH X x.toNatClampNeg)).erase x.toNatClampNeg)).tA x.toNatClampNeg none) g (zu (zu X 11 (mHd X (mH X x.toNatClampNeg)) 0) 5 x.toNatClampNeg (-1)) T1 := ⟨_, hT, (hY.now hq_4 (-1) (by rw [show (zu X 11 (mHd X (mH X x.toNatClampNeg)) 0) 5 x.toNatClampNeg = X 5 x.toNatClampNeg from zu_n _ _ _ _ (by simp)]; have h1 : ¬ X 5 x.toNatClampNeg = -2 := fun z => hn (by rw [z]; decide); simp [h1]) (by unfold znw; rw [zu_s]; rfl)).tA hq_4 none rfl⟩
      refine lv_aload_n hx hb dX1_take_67 rfl (lv_at hl 2 rfl) ?_
      refine zt_get hx hb hts in_X1 hown hK.1 hT hY.w rfl 4 (by decide) (hts _ q181) (fun _ h => h) rfl dX1_take_68 ?_
      refine zt_new hx hb hts in_X6 tyX6 tyX6_ok hown (hts _ q571) (hts _ q572) (hts _ q61) hK.1 hT hS (ci := 5) rfl (fs := [.null, .null, .int 0]) (by decide) (by show _ + 1 ≤ 9; omega) (by show _ + 3 ≤ 700; omega) dX1_take_71 (fun q H hqn hT hS => ?_)
      refine lv_dup hx hb dX1_take_74 rfl ?_
      refine lv_aload_n hx hb dX1_take_75 rfl (lv_at hl 1 rfl) ?_
      refine lv_null hx hb dX1_take_76 ?_
      refine lv_iconst (v := 0) hx hb dX1_take_77 (by decide) ?_
      refine zc_v (zr_I (As := [.ref (S.pa x.toNatClampNeg), .null, .int 0]) (rest := [.ref q, .ref (((S.kS (mH X x.toNatClampNeg) ((S.K (mH X x.toNatClampNeg)).erase x.toNatClampNeg)).tA x.toNatClampNeg none).A 6)]) ⟨hx, hb, hml, hown, hts⟩ (ct_X6_init l g A _ q (S.pa x.toNatClampNeg) none 0 (va_up_self _ _ _)) zn_X6_init q575 q61 q573 q574 rfl (by decide) (by decide) hK (fun _ h => h) hS hT rfl hl.1 (Nat.le_of_ble_eq_true rfl) dX1_take_78 ⟨by show _ + 0 ≤ _; omega, by show _ + 0 ≤ _; omega⟩) hS (fun _ h => h) (fun _ H locs _ hT _ _ hS => ?_)
      rw [zup_up] at hT
      obtain ⟨T, hT, hY, hnew⟩ : ∃ T1, zTH g A T1 H ∧ zSy ((S.kS (mH X x.toNatClampNeg) ((S.K (mH X x.toNatClampNeg)).erase x.toNatClampNeg)).tA x.toNatClampNeg none) g (zu (zu X 11 (mHd X (mH X x.toNatClampNeg)) 0) 5 x.toNatClampNeg (-1)) T1 ∧ T1 q = some (.inl (zo 5 [.ref (S.pa x.toNatClampNeg), va_rf (none : Option Nat), .int 0])) := ⟨_, hT, hY.fresh hqn _, va_up_self _ _ _⟩
      refine zc_i (zr_V (As := [.ref q]) (rest := []) ⟨hx, hb, hml, hown, hts⟩ (ct_J2_add l g A T _ (((S.kS (mH X x.toNatClampNeg) ((S.K (mH X x.toNatClampNeg)).erase x.toNatClampNeg)).tA x.toNatClampNeg none).mu 6) _ hY.lg (some q) (by rw [List.length_map]; exact Nat.le_succ_of_le hL.1) hY.elL (fun v hv => by cases hv; exact Or.inl ⟨5, _, hnew, by omega⟩)) zn_J2_add (lw_V q115 q116 q117 q43 q118) rfl (by decide) (by decide) hK (fun _ h => h) hS hT (zt_recvL hK.1 hT hY.lg) rfl hl.1 (Nat.le_of_ble_eq_true rfl) dX1_take_81 ⟨by show _ + 1 ≤ _; omega, by show _ + 160 ≤ _; omega⟩) hS (fun _ h => h) (fun r _ H locs hr1 hT _ _ hS => ?_)
      subst hr1
      obtain ⟨T, hT, hY⟩ : ∃ T1, zTH g A T1 H ∧ zSy (((S.kS (mH X x.toNatClampNeg) ((S.K (mH X x.toNatClampNeg)).erase x.toNatClampNeg)).tA x.toNatClampNeg none).lA (q, x.toNatClampNeg, none, 0)) g (zu (zu X 11 (mHd X (mH X x.toNatClampNeg)) 0) 5 x.toNatClampNeg (-1)) T1 := ⟨_, hT, hY.lA (q, x.toNatClampNeg, none, 0) hnew rfl⟩
      refine lv_pop hx hb dX1_take_84 rfl ?_
      refine lv_aload_n hx hb dX1_take_85 rfl (lv_at hl 0 rfl) ?_
      refine zt_getN hx hb hts in_X4 hown hK.1 hT (hY.p hh2) rfl 0 (by decide) (va_Nw.use (A := args) rfl (hK.2.1.1 _ _ _ _ _ _ q383)) (fun _ h => h) rfl dX1_take_86 ?_
      have hhe := hI.host hp hn
      have e1 : m_take X x = (X 5 x.toNatClampNeg, m_moves (m_ends (zu X 0 0 0) x.toNatClampNeg) x.toNatClampNeg (-1)) := by unfold m_take; rw [if_neg (by rw [hm_2]; decide), if_neg (fun z => z.elim hn (fun z => z c_7))]
      refine zm_topi (y := X 5 x.toNatClampNeg) hhe.1.symm ?_
      have e00 : (m_take X x).2 0 0 = 0 := by rw [e1]; show m_moves (m_ends (zu X 0 0 0) x.toNatClampNeg) x.toNatClampNeg (-1) 0 0 = 0; rw [m_moves_00, m_ends_00]; exact zu_s X 0 0 0
      have hhd : mHd (zu X 0 0 0) x.toNatClampNeg = mHd X (mH X x.toNatClampNeg) := by rw [mHd_w _ _ _ _ (by decide), mHd_host hI hp hn]
      exact vx_ret (ze_i hx hb hr hlocks hS dX1_take_89 (by show _ ≤ 9; omega) (by show _ ≤ 700; omega) ((((S.kS (mH X x.toNatClampNeg) ((S.K (mH X x.toNatClampNeg)).erase x.toNatClampNeg)).tA x.toNatClampNeg none).lA (q, x.toNatClampNeg, none, 0)), T) ⟨⟨by rw [e1], e00⟩, by rw [e1]; exact hY.hidR (fun k h0 h1 => m_moves_row2 (m_ends_row hhd (zu_row_ne _ _ _ h0)) h1), q, rfl⟩ hT)
theorem zn_X1_scrap : zN yX1_scrap 1 := by decide +kernel
set_option maxHeartbeats 4000000 in
theorem ct_X1_scrap (l : Launch) (hl0 : l.stackTraces = false) (g : zG) (A : Nat → Prop) (S : zS) (X : zX) (T : zT) (hY : zSy S g X T) (hI : MH X) (hC : zKo S X) (hO : zTo S X) (hW : zWo S X) (hCt : zCt S X) (hz12 : ∀ p, X 12 p = 0 ∨ X 12 p = 1) (hws : ∀ i, i < mN X → S.Wt.any (fun e => decide (e.2.1 = i)) = mWs X (nI i)) (hrel : ∀ p, p < mN X → (S.K p).length = 0 → X 11 p = 0) (x : Int32) : vx_Met l yX1_scrap (ws_ yX1_scrap cX1_scrap 3 none) (zR 9 3 172) (zP [.ref (S.A 0), .int x] g A (zTH g A T)) (va_Qv (fun (u : zS × zT) => (m_scrap X x) 0 0 = 0 ∧ zSy u.1 g (m_scrap X x) u.2 ∧ u.1 = S.tA x.toNatClampNeg none) (fun u t => zTH g A u.2 t.heap) A) (zXC (fun E => (E = xIO ∧ (m_scrap X x) 0 0 = 1) ∨ (E = xIS ∧ (m_scrap X x) 0 0 = 2)) g A T) 3 172 A := by
  refine zb_xmet (by decide) (Nat.le_of_ble_eq_true rfl) ?_
  intro p e s m args below meth c ls hx hb hr hml hown hts hlocks hnm hK hT ha_ hl hout
  have hown : s.vm.findClass RX1 = some m.cls := hown
  have hS : va_S A s.heap s.heap [] := va_S.rf
  have hl : lv_has ls 3 [(0, .ref (S.A 0)), (1, .int x)] := hl
  have hn60 := hI.1.2
  refine lv_aload_n hx hb dX1_scrap_0 rfl (lv_at hl 0 rfl) ?_
  refine zt_get hx hb hts in_X1 hown hK.1 hT hY.w rfl 0 (by decide) (hts _ q177) (fun _ h => h) rfl dX1_scrap_1 ?_
  refine lv_iload_n hx hb dX1_scrap_4 rfl (lv_at hl 1 rfl) ?_
  refine zxc_q (zxr_V (As := [.int x]) (rest := []) ⟨hx, hb, hml, hown, hts⟩ (ct_X2_need l hl0 g A S X _ hY hI x) zn_X2_need (lw_V q514 q515 q516 q40 q517) rfl (by decide) (by decide) hK (fun _ h => h) hS hT (zt_recv hK.1 hT hY.rk rfl) rfl hl.1 (Nat.le_of_ble_eq_true rfl) dX1_scrap_5 ⟨by show _ + 1 ≤ _; omega, by show _ + 6 ≤ _; omega⟩) hS hout hlocks (fun E hE => by obtain ⟨rfl, h0⟩ := hE; exact Or.inl ⟨rfl, by unfold m_scrap; rw [if_pos h0]; exact zu_s X 0 0 1⟩) (by show _ + 1 ≤ 3; omega) (by show _ + 6 ≤ 172; omega) (fun r _ H locs hr_1 hT _ _ hS => ?_)
  obtain ⟨rfl, hm_2⟩ := hr_1
  obtain ⟨hq_3, hq_4⟩ := mIs_p hI hm_2
  refine zm_top (v' := .ref (S.pa x.toNatClampNeg)) rfl ?_
  refine va_castS hx hb hown (hts _ q356) (hK.1.1 3 _ rfl).2 (zt_recv hK.1 hT (hY.p hq_4) (r := zCl[3]) rfl) dX1_scrap_8 ?_
  refine lv_astore_n (lv' := [(2, .ref (S.pa x.toNatClampNeg)), (0, .ref (S.A 0)), (1, .int x)]) hx hb dX1_scrap_11 rfl hl (by decide) rfl (fun ls hl => ?_)
  have hp := hq_4
  have hxe : x = nI x.toNatClampNeg := (mIs_p hI hm_2).1
  refine lv_aload_n hx hb dX1_scrap_12 rfl (lv_at hl 0 rfl) ?_
  refine zc_i (zr_V (As := []) (rest := []) ⟨hx, hb, hml, hown, hts⟩ (ct_X4_isInStore l g A S X _ hY hI x.toNatClampNeg hq_4) zn_X4_isInStore (lw_V q543 q544 q545 q54 q546) rfl (by decide) (by decide) hK (fun _ h => h) hS hT (zt_recv hK.1 hT (hY.p hq_4) rfl) rfl hl.1 (Nat.le_of_ble_eq_true rfl) dX1_scrap_13 ⟨by show _ + 0 ≤ _; omega, by show _ + 0 ≤ _; omega⟩) hS (fun _ h => h) (fun r _ H locs hr_5 hT _ _ hS => ?_)
  subst hr_5
  have hin : (0 < nI (mIn X x (-1))) = (¬ (S.K x.toNatClampNeg).length = 0) := by rw [show mIn X x (-1) = (S.K x.toNatClampNeg).length from by rw [hCt.2.1 _ hp, ← hxe]]; exact propext ⟨fun z z2 => by rw [z2] at z; exact absurd z (by decide), fun z => (nI_ltI (a := 0) (b := (S.K x.toNatClampNeg).length) (by decide) (by have := (hC _ hp).1; omega)).mpr (by omega)⟩
  have hws2 : mWs X x = S.Wt.any (fun e => decide (e.2.1 = x.toNatClampNeg)) := by rw [hws _ hp, ← hxe]
  refine zl_ifeq (tgt := 48) hx hb dX1_scrap_16 (by decide) (fun c_6 => ?_) (fun c_6 => ?_)
  · refine lv_iconst (v := 0) hx hb dX1_scrap_48 (by decide) ?_
    refine zm_topi (y := zb false) rfl ?_
    refine zxc_v (zxr_S (As := [.int (zb false)]) (rest := []) ⟨hx, hb, hml, hown, hts⟩ (ct_X1_needState l hl0 g A _ false) zn_X1_needState (lw_S q338 q339 q39 q340) (by decide) (by decide) hK (fun _ h => h) hS hT rfl hl.1 (Nat.le_of_ble_eq_true rfl) dX1_scrap_49 ⟨by show _ + 1 ≤ _; omega, by show _ + 6 ≤ _; omega⟩) hS hout hlocks (fun E hE => by obtain ⟨rfl, h0⟩ := hE; first | exact absurd h0 (by decide) | exact Or.inr ⟨rfl, by unfold m_scrap; rw [if_neg (by rw [hm_2]; decide), if_pos (by rw [hin, hws2]; simp [of_decide_eq_false c_6])]; exact zu_s X 0 0 2⟩) (by show _ + 1 ≤ 3; omega) (by show _ + 6 ≤ 172; omega) (fun _ H locs hx_7 hT _ _ hS => ?_)
    cases hx_7
  · refine lv_aload_n hx hb dX1_scrap_19 rfl (lv_at hl 0 rfl) ?_
    refine zt_getN hx hb hts in_X4 hown hK.1 hT (hY.p hq_4) rfl 5 (by decide) (va_Nw.use (A := args) rfl (hK.2.1.1 _ _ _ _ _ _ q393)) (fun _ h => h) rfl dX1_scrap_20 ?_
    refine zc_i (zr_V (As := []) (rest := []) ⟨hx, hb, hml, hown, hts⟩ (ct_J2_isEmpty l g A T _ (S.mu (23 + 4 * x.toNatClampNeg)) _ (hY.k hq_4)) zn_J2_isEmpty (lw_V q213 q214 q215 q43 q216) rfl (by decide) (by decide) hK (fun _ h => h) hS hT (zt_recvL hK.1 hT (hY.k hq_4)) rfl hl.1 (Nat.le_of_ble_eq_true rfl) dX1_scrap_23 ⟨by show _ + 0 ≤ _; omega, by show _ + 0 ≤ _; omega⟩) hS (fun _ h => h) (fun r _ H locs hr1 hT _ _ hS => ?_)
    subst hr1
    refine zm_topi (y := zb (decide ((S.K x.toNatClampNeg).length = 0))) (by simp) ?_
    refine zl_ifeq (tgt := 48) hx hb dX1_scrap_26 (by decide) (fun c_8 => ?_) (fun c_8 => ?_)
    · refine lv_iconst (v := 0) hx hb dX1_scrap_48 (by decide) ?_
      refine zm_topi (y := zb false) rfl ?_
      refine zxc_v (zxr_S (As := [.int (zb false)]) (rest := []) ⟨hx, hb, hml, hown, hts⟩ (ct_X1_needState l hl0 g A _ false) zn_X1_needState (lw_S q338 q339 q39 q340) (by decide) (by decide) hK (fun _ h => h) hS hT rfl hl.1 (Nat.le_of_ble_eq_true rfl) dX1_scrap_49 ⟨by show _ + 1 ≤ _; omega, by show _ + 6 ≤ _; omega⟩) hS hout hlocks (fun E hE => by obtain ⟨rfl, h0⟩ := hE; first | exact absurd h0 (by decide) | exact Or.inr ⟨rfl, by unfold m_scrap; rw [if_neg (by rw [hm_2]; decide), if_pos (by rw [hin, hws2]; simp [of_decide_eq_true c_6, of_decide_eq_false c_8])]; exact zu_s X 0 0 2⟩) (by show _ + 1 ≤ 3; omega) (by show _ + 6 ≤ 172; omega) (fun _ H locs hx_9 hT _ _ hS => ?_)
      cases hx_9
    · refine lv_aload_n hx hb dX1_scrap_29 rfl (lv_at hl 0 rfl) ?_
      refine zc_i (zr_V (As := []) (rest := []) ⟨hx, hb, hml, hown, hts⟩ (ct_X4_isBound l g A S X _ hY hI x.toNatClampNeg hq_4 hz12) zn_X4_isBound (lw_V q547 q548 q549 q54 q550) rfl (by decide) (by decide) hK (fun _ h => h) hS hT (zt_recv hK.1 hT (hY.p hq_4) rfl) rfl hl.1 (Nat.le_of_ble_eq_true rfl) dX1_scrap_30 ⟨by show _ + 0 ≤ _; omega, by show _ + 0 ≤ _; omega⟩) hS (fun _ h => h) (fun r _ H locs hr_10 hT _ _ hS => ?_)
      subst hr_10
      refine lv_if_ne (tgt := 48) hx hb dX1_scrap_33 (by decide) (fun c_11 => ?_) (fun c_11 => ?_)
      · refine lv_iconst (v := 0) hx hb dX1_scrap_48 (by decide) ?_
        refine zm_topi (y := zb false) rfl ?_
        refine zxc_v (zxr_S (As := [.int (zb false)]) (rest := []) ⟨hx, hb, hml, hown, hts⟩ (ct_X1_needState l hl0 g A _ false) zn_X1_needState (lw_S q338 q339 q39 q340) (by decide) (by decide) hK (fun _ h => h) hS hT rfl hl.1 (Nat.le_of_ble_eq_true rfl) dX1_scrap_49 ⟨by show _ + 1 ≤ _; omega, by show _ + 6 ≤ _; omega⟩) hS hout hlocks (fun E hE => by obtain ⟨rfl, h0⟩ := hE; first | exact absurd h0 (by decide) | exact Or.inr ⟨rfl, by unfold m_scrap; rw [if_neg (by rw [hm_2]; decide), if_pos (by rw [hin, hws2]; simp [of_decide_eq_true c_6, of_decide_eq_true c_8, c_11])]; exact zu_s X 0 0 2⟩) (by show _ + 1 ≤ 3; omega) (by show _ + 6 ≤ 172; omega) (fun _ H locs hx_12 hT _ _ hS => ?_)
        cases hx_12
      · refine lv_aload_n hx hb dX1_scrap_36 rfl (lv_at hl 1 rfl) ?_
        refine lv_aload_n hx hb dX1_scrap_37 rfl (lv_at hl 0 rfl) ?_
        refine zc_i (zr_V (As := [.ref (S.pa x.toNatClampNeg)]) (rest := []) ⟨hx, hb, hml, hown, hts⟩ (ct_X1_waits l g A S X _ hY hW x.toNatClampNeg hq_4) zn_X1_waits (lw_V q631 q633 qs8 q39 q634) rfl (by decide) (by decide) hK (fun _ h => h) hS hT (zt_recv hK.1 hT hY.w rfl) rfl hl.1 (Nat.le_of_ble_eq_true rfl) dX1_scrap_38 ⟨by show _ + 0 ≤ _; omega, by show _ + 0 ≤ _; omega⟩) hS (fun _ h => h) (fun r _ H locs hr_13 hT _ _ hS => ?_)
        subst hr_13
        refine zl_ifne (tgt := 48) hx hb dX1_scrap_41 (by decide) (fun c_14 => ?_) (fun c_14 => ?_)
        · refine lv_iconst (v := 0) hx hb dX1_scrap_48 (by decide) ?_
          refine zm_topi (y := zb false) rfl ?_
          refine zxc_v (zxr_S (As := [.int (zb false)]) (rest := []) ⟨hx, hb, hml, hown, hts⟩ (ct_X1_needState l hl0 g A _ false) zn_X1_needState (lw_S q338 q339 q39 q340) (by decide) (by decide) hK (fun _ h => h) hS hT rfl hl.1 (Nat.le_of_ble_eq_true rfl) dX1_scrap_49 ⟨by show _ + 1 ≤ _; omega, by show _ + 6 ≤ _; omega⟩) hS hout hlocks (fun E hE => by obtain ⟨rfl, h0⟩ := hE; first | exact absurd h0 (by decide) | exact Or.inr ⟨rfl, by unfold m_scrap; rw [if_neg (by rw [hm_2]; decide), if_pos (by rw [hin, hws2]; simp [of_decide_eq_true c_6, of_decide_eq_true c_8, c_11, c_14])]; exact zu_s X 0 0 2⟩) (by show _ + 1 ≤ 3; omega) (by show _ + 6 ≤ 172; omega) (fun _ H locs hx_15 hT _ _ hS => ?_)
          cases hx_15
        · refine lv_iconst (v := 1) hx hb dX1_scrap_44 (by decide) ?_
          refine lv_goto (tgt := 49) hx hb dX1_scrap_45 (by decide) ?_
          refine zm_topi (y := zb true) rfl ?_
          refine zxc_v (zxr_S (As := [.int (zb true)]) (rest := []) ⟨hx, hb, hml, hown, hts⟩ (ct_X1_needState l hl0 g A _ true) zn_X1_needState (lw_S q338 q339 q39 q340) (by decide) (by decide) hK (fun _ h => h) hS hT rfl hl.1 (Nat.le_of_ble_eq_true rfl) dX1_scrap_49 ⟨by show _ + 1 ≤ _; omega, by show _ + 6 ≤ _; omega⟩) hS hout hlocks (fun E hE => by obtain ⟨rfl, h0⟩ := hE; first | exact absurd h0 (by decide) | exact Or.inr ⟨rfl, by unfold m_scrap; rw [if_neg (by rw [hm_2]; decide), if_pos (by rw [hin, hws2]; simp [of_decide_eq_true c_6, of_decide_eq_true c_8, c_11, c_14])]; exact zu_s X 0 0 2⟩) (by show _ + 1 ≤ 3; omega) (by show _ + 6 ≤ 172; omega) (fun _ H locs hx_16 hT _ _ hS => ?_)
          have hK0 := c_8
          have hx5 : X 5 x.toNatClampNeg < 0 := by rw [of_decide_eq_true c_6]; decide
          refine lv_aload_n hx hb dX1_scrap_52 rfl (lv_at hl 0 rfl) ?_
          refine lv_iconst (v := 1) hx hb dX1_scrap_53 (by decide) ?_
          refine zt_putN hx hb hts in_X4 tyX4 tyX4_ok nmX4 hown hK.1 hT hS (hY.p hq_4) rfl 6 (by decide) (va_Nw.use (A := args) rfl (hK.2.1.1 _ _ _ _ _ _ q395)) (fun _ h => h) rfl (v := .int 1) (tyX4_ok 6 (by decide)) (zm_nz (Or.inr rfl)) rfl (show 6 < 20 from by decide) dX1_scrap_54 (fun H locs hT hS => ?_)
          obtain ⟨T, hT, hY⟩ : ∃ T1, zTH g A T1 H ∧ zSy S g (zu X 5 x.toNatClampNeg (-2)) T1 := ⟨_, hT, hY.scr hq_4 hx5 rfl⟩
          refine lv_aload_n hx hb dX1_scrap_57 rfl (lv_at hl 0 rfl) ?_
          refine lv_iconst (v := 0) hx hb dX1_scrap_58 (by decide) ?_
          refine zt_putN hx hb hts in_X4 tyX4 tyX4_ok nmX4 hown hK.1 hT hS (hY.p hq_4) rfl 18 (by decide) (va_Nw.use (A := args) rfl (hK.2.1.1 _ _ _ _ _ _ q416)) (fun _ h => h) rfl (v := .int 0) (tyX4_ok 18 (by decide)) (zm_nz (Or.inl rfl)) rfl (show 18 < 20 from by decide) dX1_scrap_59 (fun H locs hT hS => ?_)
          obtain ⟨T, hT, hY⟩ : ∃ T1, zTH g A T1 H ∧ zSy S g (zu (zu X 5 x.toNatClampNeg (-2)) 11 x.toNatClampNeg 0) T1 := ⟨_, hT, hY.pw hq_4 11 0 rfl (zpF_s S (zu X 5 x.toNatClampNeg (-2)) 18 11 x.toNatClampNeg _ (by decide))⟩
          refine lv_aload_n hx hb dX1_scrap_62 rfl (lv_at hl 0 rfl) ?_
          refine zt_getN hx hb hts in_X4 hown hK.1 hT (hY.p hq_4) rfl 4 (by decide) (va_Nw.use (A := args) rfl (hK.2.1.1 _ _ _ _ _ _ q391)) (fun _ h => h) rfl dX1_scrap_63 ?_
          refine lv_null hx hb dX1_scrap_66 ?_
          have h11 : (zu X 5 x.toNatClampNeg (-2)) 11 x.toNatClampNeg = 0 := by rw [zu_n _ _ _ _ (by simp)]; exact hrel _ hp (of_decide_eq_true hK0)
          rw [zu_r _ _ _ _ h11] at hY
          refine zc_v (zr_V (As := [.null]) (rest := []) ⟨hx, hb, hml, hown, hts⟩ (ct_X5_become l g A T _ _ _ _ _ none (hY.t hq_4) (hY.l hq_4) (by simp; exact (hO _ hp).1) (hY.elT hO hq_4) (fun v hv => by cases hv)) zn_X5_become (lw_V q565 q566 q567 q55 q568) rfl (by decide) (by decide) hK (fun _ h => h) hS hT (zt_recv hK.1 hT (hY.t hq_4) rfl) rfl hl.1 (Nat.le_of_ble_eq_true rfl) dX1_scrap_67 ⟨by show _ + 1 ≤ _; omega, by show _ + 160 ≤ _; omega⟩) hS (fun _ h => h) (fun _ H locs _ hT _ _ hS => ?_)
          obtain ⟨T, hT, hY⟩ : ∃ T1, zTH g A T1 H ∧ zSy (S.tA x.toNatClampNeg none) g (zu (zu X 5 x.toNatClampNeg (-2)) 5 x.toNatClampNeg (-2)) T1 := ⟨_, hT, (hY.now hq_4 (-2) (by rw [zu_s]) (by unfold znw; rw [zu_s]; rfl)).tA hq_4 none rfl⟩
          rw [zu_zu] at hY
          have e1 : m_scrap X x = m_moves (zu X 0 0 0) x.toNatClampNeg (-2) := by unfold m_scrap; rw [if_neg (by rw [hm_2]; decide), if_neg (by rw [hin, hws2]; simp [of_decide_eq_true c_6, of_decide_eq_true c_8, c_11, c_14])]
          exact vx_ret (ze_v hx hb hr hlocks hS dX1_scrap_70 (by show _ ≤ 3; omega) (by show _ ≤ 172; omega) ((S.tA x.toNatClampNeg none), T) (by rw [e1]; exact ⟨by rw [m_moves_00]; exact zu_s X 0 0 0, hY.hidR (fun k h0 h1 => m_moves_row X _ _ h0 h1), rfl⟩) hT)
