theorem zn_X1_barredBy : zN yX1_barredBy 1 := by decide +kernel
set_option maxHeartbeats 4000000 in
theorem ct_X1_barredBy (l : Launch) (hl0 : l.stackTraces = false) (g : zG) (A : Nat → Prop) (S : zS) (X : zX) (T : zT) (hY : zSy S g X T) (hI : MH X) (hC : zKo S X) (hKk : zKk S X) (hz9 : ∀ p, X 9 p = 0 ∨ X 9 p = 1) (hz10 : ∀ p, X 10 p = 0 ∨ X 10 p = 1) (hBB : zBB S X) (x : Int32) : vx_Met l yX1_barredBy (ws_ yX1_barredBy cX1_barredBy 4 (some .int)) (zR 18 10 36) (zP [.ref (S.A 0), .int x] g A (zTH g A T)) (va_Qi (fun rz_ (T1 : zT) => (rz_ = (m_barredBy X x).1 ∧ (m_barredBy X x).2 0 0 = 0) ∧ zSy S g (m_barredBy X x).2 T1) (fun T1 t => zTH g A T1 t.heap) A) (zXC (fun E => (E = xIO ∧ (m_barredBy X x).2 0 0 = 1) ∨ (E = xIA ∧ (m_barredBy X x).2 0 0 = 2)) g A T) 10 36 A := by
  refine zb_xmet (by decide) (Nat.le_of_ble_eq_true rfl) ?_
  intro p e s m args below meth c ls hx hb hr hml hown hts hlocks hnm hK hT ha_ hl hout
  have hown : s.vm.findClass RX1 = some m.cls := hown
  have hS : va_S A s.heap s.heap [] := va_S.rf
  have hl : lv_has ls 4 [(0, .ref (S.A 0)), (1, .int x)] := hl
  refine lv_aload_n hx hb dX1_barredBy_0 rfl (lv_at hl 0 rfl) ?_
  refine lv_iload_n hx hb dX1_barredBy_1 rfl (lv_at hl 1 rfl) ?_
  refine lv_iconst (v := 0) hx hb dX1_barredBy_2 (by decide) ?_
  refine zxc_q (zxr_V (As := [.int x, .int 0]) (rest := []) ⟨hx, hb, hml, hown, hts⟩ (ct_X1_needKind l hl0 g A S X _ hY hI x 0) zn_X1_needKind (lw_V q642 q644 qs9 q39 q645) rfl (by decide) (by decide) hK (fun _ h => h) hS hT (zt_recv hK.1 hT hY.w rfl) rfl hl.1 (Nat.le_of_ble_eq_true rfl) dX1_barredBy_3 ⟨by show _ + 2 ≤ _; omega, by show _ + 12 ≤ _; omega⟩) hS hout hlocks (fun E hE => by rcases hE with ⟨rfl, h0⟩ | ⟨rfl, h0, h1⟩; exact Or.inl ⟨rfl, by unfold m_barredBy; rw [if_pos (by rw [mKc_1 _ h0]; decide), mKc_1 _ h0]; exact zu_s X 0 0 1⟩; exact Or.inr ⟨rfl, by unfold m_barredBy; rw [if_pos (by rw [mKc_2 h0 h1]; decide), mKc_2 h0 h1]; exact zu_s X 0 0 2⟩) (by show _ + 2 ≤ 10; omega) (by show _ + 12 ≤ 36; omega) (fun r _ H locs hr_1 hT _ _ hS => ?_)
  obtain ⟨rfl, hm_2, hk_3⟩ := hr_1
  obtain ⟨hq_4, hq_5⟩ := mIs_p hI hm_2
  have hkc : mKc X x 0 = 0 := mKc_0 hm_2 hk_3
  refine zm_top (v' := .ref (S.pa x.toNatClampNeg)) rfl ?_
  refine lv_astore_n (lv' := [(2, .ref (S.pa x.toNatClampNeg)), (0, .ref (S.A 0)), (1, .int x)]) hx hb dX1_barredBy_6 rfl hl (by decide) rfl (fun ls hl => ?_)
  refine lv_aload_n hx hb dX1_barredBy_7 rfl (lv_at hl 1 rfl) ?_
  refine lv_aload_n hx hb dX1_barredBy_8 rfl (lv_at hl 0 rfl) ?_
  refine zc_i (zr_V (As := [.ref (S.pa x.toNatClampNeg)]) (rest := []) ⟨hx, hb, hml, hown, hts⟩ (ct_X1_reasonOf l g A S X _ hY hI hC hKk hz9 hz10 x.toNatClampNeg hq_5) zn_X1_reasonOf (lw_V q858 q860 qs12 q39 q861) rfl (by decide) (by decide) hK (fun _ h => h) hS hT (zt_recv hK.1 hT hY.w rfl) rfl hl.1 (Nat.le_of_ble_eq_true rfl) dX1_barredBy_9 ⟨by show _ + 7 ≤ _; omega, by show _ + 21 ≤ _; omega⟩) hS (fun _ h => h) (fun r _ H locs hr1 hT _ _ hS => ?_)
  subst hr1
  rcases hBB _ hq_5 hk_3 with ⟨e1, e2⟩ | ⟨r, i, e1, hr1, hr7, e3, e4⟩
  · rw [e1]
    refine zm_topi (y := 0) rfl ?_
    refine lv_istore_n (lv' := [(3, .int 0), (2, .ref (S.pa x.toNatClampNeg)), (0, .ref (S.A 0)), (1, .int x)]) hx hb dX1_barredBy_12 rfl hl (by decide) rfl (fun ls hl => ?_)
    refine lv_iload_n hx hb dX1_barredBy_13 rfl (lv_at hl 0 rfl) ?_
    refine lv_if_ne (tgt := 21) hx hb dX1_barredBy_14 (by decide) (fun c_6 => absurd (by decide) c_6) (fun _ => ?_)
    refine lv_iconst (v := (-1)) hx hb dX1_barredBy_17 (by decide) ?_
    refine lv_goto (tgt := 30) hx hb dX1_barredBy_18 (by decide) ?_
    have hY0 := hY.hid 0 0 0 (Or.inl rfl)
    have e1 : m_barredBy X x = ((-1), zu X 0 0 0) := by simp [m_barredBy, hkc, e2]
    exact vx_ret (ze_i hx hb hr hlocks hS dX1_barredBy_30 (by show _ ≤ 10; omega) (by show _ ≤ 36; omega) T (by rw [e1]; exact ⟨⟨rfl, by simp [zu]⟩, hY0⟩) hT)
  · rw [e1]
    have hi60 : i < mN X := by have := (zfi_lt _ _ _ e3).1; omega
    have hn60 := hI.1.2
    refine lv_istore_n (lv' := [(3, .int (nI r)), (2, .ref (S.pa x.toNatClampNeg)), (0, .ref (S.A 0)), (1, .int x)]) hx hb dX1_barredBy_12 rfl hl (by decide) rfl (fun ls hl => ?_)
    refine lv_iload_n hx hb dX1_barredBy_13 rfl (lv_at hl 0 rfl) ?_
    refine zl_ifne0 (tgt := 21) (a := r) hx hb (by first | decide | omega) dX1_barredBy_14 (by decide) (fun c_7 => ?_) (fun c_7 => ?_)
    · refine lv_aload_n hx hb dX1_barredBy_21 rfl (lv_at hl 2 rfl) ?_
      refine lv_aload_n hx hb dX1_barredBy_22 rfl (lv_at hl 1 rfl) ?_
      refine lv_iload_n hx hb dX1_barredBy_23 rfl (lv_at hl 0 rfl) ?_
      refine zc_q (zr_V (As := [.ref (S.pa x.toNatClampNeg), .int (nI r)]) (rest := []) ⟨hx, hb, hml, hown, hts⟩ (ct_X1_barring l g A S X _ hY hI hC hKk hz9 hz10 x.toNatClampNeg r hq_5 ⟨hr1, hr7⟩) zn_X1_barring (lw_V q862 q864 qs13 q39 q865) rfl (by decide) (by decide) hK (fun _ h => h) hS hT (zt_recv hK.1 hT hY.w rfl) rfl hl.1 (Nat.le_of_ble_eq_true rfl) dX1_barredBy_24 ⟨by show _ + 1 ≤ _; omega, by show _ + 3 ≤ _; omega⟩) hS (fun _ h => h) (fun r_ _ H locs hr2 hT _ _ hS => ?_)
      rw [e3] at hr2
      subst hr2
      refine zm_top (v' := .ref (S.pa i)) rfl ?_
      refine zt_getN hx hb hts in_X4 hown hK.1 hT (hY.p hi60) rfl 0 (by decide) (va_Nw.use (A := args) rfl (hK.2.1.1 _ _ _ _ _ _ q383)) (fun _ h => h) rfl dX1_barredBy_27 ?_
      have hY0 := hY.hid 0 0 0 (Or.inl rfl)
      have e1 : m_barredBy X x = (nI i, zu X 0 0 0) := by simp [m_barredBy, hkc, e4, zBB_nz r (by omega) hr1 i (by omega), zBB_m r (by omega) i (by omega)]
      exact vx_ret (ze_i hx hb hr hlocks hS dX1_barredBy_30 (by show _ ≤ 10; omega) (by show _ ≤ 36; omega) T (by rw [e1]; exact ⟨⟨rfl, by simp [zu]⟩, hY0⟩) hT)
    · omega
theorem zn_X1_ofPart : zN yX1_ofPart 2 := by decide +kernel
set_option maxHeartbeats 4000000 in
theorem ct_X1_ofPart (l : Launch) (hl0 : l.stackTraces = false) (g : zG) (A : Nat → Prop) (S : zS) (X : zX) (T : zT) (hY : zSy S g X T) (hI : MH X) (hMp : ∀ i, i < mN X → (S.TL i).length = mMp X (nI i)) (x wh : Int32) : vx_Met l yX1_ofPart (ws_ yX1_ofPart cX1_ofPart 4 (some .int)) (zR 8 2 12) (zP [.ref (S.A 0), .int x, .int wh] g A (zTH g A T)) (va_Qi (fun rz_ (T1 : zT) => (rz_ = (m_ofPart X x wh).1 ∧ (m_ofPart X x wh).2 0 0 = 0) ∧ zSy S g (m_ofPart X x wh).2 T1) (fun T1 t => zTH g A T1 t.heap) A) (zXC (fun E => (E = xIO ∧ (m_ofPart X x wh).2 0 0 = 1) ∨ (E = xIA ∧ (m_ofPart X x wh).2 0 0 = 2)) g A T) 2 12 A := by
  refine zb_xmet (by decide) (Nat.le_of_ble_eq_true rfl) ?_
  intro p e s m args below meth c ls hx hb hr hml hown hts hlocks hnm hK hT ha_ hl hout
  have hown : s.vm.findClass RX1 = some m.cls := hown
  have hS : va_S A s.heap s.heap [] := va_S.rf
  have hl : lv_has ls 4 [(0, .ref (S.A 0)), (1, .int x), (2, .int wh)] := hl
  refine lv_aload_n hx hb dX1_ofPart_0 rfl (lv_at hl 0 rfl) ?_
  refine zt_get hx hb hts in_X1 hown hK.1 hT hY.w rfl 0 (by decide) (hts _ q177) (fun _ h => h) rfl dX1_ofPart_1 ?_
  refine lv_iload_n hx hb dX1_ofPart_4 rfl (lv_at hl 1 rfl) ?_
  refine zxc_q (zxr_V (As := [.int x]) (rest := []) ⟨hx, hb, hml, hown, hts⟩ (ct_X2_need l hl0 g A S X _ hY hI x) zn_X2_need (lw_V q514 q515 q516 q40 q517) rfl (by decide) (by decide) hK (fun _ h => h) hS hT (zt_recv hK.1 hT hY.rk rfl) rfl hl.1 (Nat.le_of_ble_eq_true rfl) dX1_ofPart_5 ⟨by show _ + 1 ≤ _; omega, by show _ + 6 ≤ _; omega⟩) hS hout hlocks (fun E hE => by obtain ⟨rfl, h0⟩ := hE; exact Or.inl ⟨rfl, by unfold m_ofPart; simp [zu, h0]⟩) (by show _ + 1 ≤ 2; omega) (by show _ + 6 ≤ 12; omega) (fun r _ H locs hr_1 hT _ _ hS => ?_)
  obtain ⟨rfl, hm_2⟩ := hr_1
  obtain ⟨hq_3, hq_4⟩ := mIs_p hI hm_2
  refine zm_top (v' := .ref (S.pa x.toNatClampNeg)) rfl ?_
  refine va_castS hx hb hown (hts _ q356) (hK.1.1 3 _ rfl).2 (zt_recv hK.1 hT (hY.p hq_4) (r := zCl[3]) rfl) dX1_ofPart_8 ?_
  refine lv_astore_n (lv' := [(3, .ref (S.pa x.toNatClampNeg)), (0, .ref (S.A 0)), (1, .int x), (2, .int wh)]) hx hb dX1_ofPart_11 rfl hl (by decide) rfl (fun ls hl => ?_)
  have hxe : x = nI x.toNatClampNeg := (mIs_p hI hm_2).1
  refine lv_iload_n hx hb dX1_ofPart_12 rfl (lv_at hl 3 rfl) ?_
  refine lv_iconst (v := 0) hx hb dX1_ofPart_13 (by decide) ?_
  refine lv_bipush (v := 8) hx hb dX1_ofPart_14 (by decide) ?_
  refine zc_i (zr_S (As := [.int wh, .int 0, .int 8]) (rest := []) ⟨hx, hb, hml, hown, hts⟩ (ct_X1_in l g A (zTH g A _) wh 0 8) zn_X1_in (lw_S q262 q263 q39 q264) (by decide) (by decide) hK (fun _ h => h) hS hT rfl hl.1 (Nat.le_of_ble_eq_true rfl) dX1_ofPart_16 ⟨by show _ + 0 ≤ _; omega, by show _ + 0 ≤ _; omega⟩) hS (fun _ h => h) (fun r _ H locs hr1 hT _ _ hS => ?_)
  subst hr1
  refine zxc_v (zxr_S (As := [.int (zb (zin wh 0 8))]) (rest := []) ⟨hx, hb, hml, hown, hts⟩ (ct_X1_need l hl0 g A _ (zin wh 0 8)) zn_X1_need (lw_S q265 q266 q39 q267) (by decide) (by decide) hK (fun _ h => h) hS hT rfl hl.1 (Nat.le_of_ble_eq_true rfl) dX1_ofPart_19 ⟨by show _ + 1 ≤ _; omega, by show _ + 6 ≤ _; omega⟩) hS hout hlocks (fun E hE => by obtain ⟨rfl, h0⟩ := hE; exact Or.inr (⟨rfl, by unfold m_ofPart; first | exact absurd h0 (by decide) | (simp [zu, h0, hm_2]; done) | (fail)⟩)) (by show _ + 1 ≤ 2; omega) (by show _ + 6 ≤ 12; omega) (fun _ H locs hx_5 hT _ _ hS => ?_)
  refine lv_iload_n hx hb dX1_ofPart_22 rfl (lv_at hl 3 rfl) ?_
  obtain ⟨j, hj, rfl⟩ := zin_n (b := 8) rfl hx_5
  rcases (show j = 0 ∨ j = 1 ∨ j = 2 ∨ j = 3 ∨ j = 4 ∨ j = 5 ∨ j = 6 ∨ j = 7 ∨ j = 8 by omega) with rfl | rfl | rfl | rfl | rfl | rfl | rfl | rfl | rfl
  · refine lv_tableIn (x := nI 0) (off := 45) (tgt := 68) hx hb dX1_ofPart_23 (by decide) (by decide) rfl (by decide) ?_
    refine lv_aload_n hx hb dX1_ofPart_68 rfl (lv_at hl 0 rfl) ?_
    refine zt_getN hx hb hts in_X4 hown hK.1 hT (hY.p hq_4) rfl 1 (by decide) (va_Nw.use (A := args) rfl (hK.2.1.1 _ _ _ _ _ _ q385)) (fun _ h => h) rfl dX1_ofPart_69 ?_
    refine lv_goto (tgt := 150) hx hb dX1_ofPart_72 (by decide) ?_
    have hY0 := hY.hid 0 0 0 (Or.inl rfl)
    have e1 : m_ofPart X x (nI 0) = (X 2 x.toNatClampNeg, zu X 0 0 0) := by unfold m_ofPart; rw [if_neg (by rw [hm_2]; decide), if_neg (by decide), if_pos (by decide), if_pos (by decide)]
    exact vx_ret (ze_i hx hb hr hlocks hS dX1_ofPart_150 (by show _ ≤ 2; omega) (by show _ ≤ 12; omega) T (by rw [e1]; exact ⟨⟨rfl, by simp [zu]⟩, hY0⟩) hT)
  · refine lv_tableIn (x := nI 1) (off := 52) (tgt := 75) hx hb dX1_ofPart_23 (by decide) (by decide) rfl (by decide) ?_
    refine lv_aload_n hx hb dX1_ofPart_75 rfl (lv_at hl 0 rfl) ?_
    refine zt_getN hx hb hts in_X4 hown hK.1 hT (hY.p hq_4) rfl 2 (by decide) (va_Nw.use (A := args) rfl (hK.2.1.1 _ _ _ _ _ _ q387)) (fun _ h => h) rfl dX1_ofPart_76 ?_
    refine lv_goto (tgt := 150) hx hb dX1_ofPart_79 (by decide) ?_
    have hY0 := hY.hid 0 0 0 (Or.inl rfl)
    have e1 : m_ofPart X x (nI 1) = (X 3 x.toNatClampNeg, zu X 0 0 0) := by unfold m_ofPart; rw [if_neg (by rw [hm_2]; decide), if_neg (by decide), if_pos (by decide), if_neg (by decide), if_pos (by decide)]
    exact vx_ret (ze_i hx hb hr hlocks hS dX1_ofPart_150 (by show _ ≤ 2; omega) (by show _ ≤ 12; omega) T (by rw [e1]; exact ⟨⟨rfl, by simp [zu]⟩, hY0⟩) hT)
  · refine lv_tableIn (x := nI 2) (off := 59) (tgt := 82) hx hb dX1_ofPart_23 (by decide) (by decide) rfl (by decide) ?_
    refine lv_aload_n hx hb dX1_ofPart_82 rfl (lv_at hl 0 rfl) ?_
    refine zt_getN hx hb hts in_X4 hown hK.1 hT (hY.p hq_4) rfl 3 (by decide) (va_Nw.use (A := args) rfl (hK.2.1.1 _ _ _ _ _ _ q389)) (fun _ h => h) rfl dX1_ofPart_83 ?_
    refine lv_goto (tgt := 150) hx hb dX1_ofPart_86 (by decide) ?_
    have hY0 := hY.hid 0 0 0 (Or.inl rfl)
    have e1 : m_ofPart X x (nI 2) = (X 4 x.toNatClampNeg, zu X 0 0 0) := by unfold m_ofPart; rw [if_neg (by rw [hm_2]; decide), if_neg (by decide), if_pos (by decide), if_neg (by decide), if_neg (by decide)]
    exact vx_ret (ze_i hx hb hr hlocks hS dX1_ofPart_150 (by show _ ≤ 2; omega) (by show _ ≤ 12; omega) T (by rw [e1]; exact ⟨⟨rfl, by simp [zu]⟩, hY0⟩) hT)
  · refine lv_tableIn (x := nI 3) (off := 66) (tgt := 89) hx hb dX1_ofPart_23 (by decide) (by decide) rfl (by decide) ?_
    refine lv_aload_n hx hb dX1_ofPart_89 rfl (lv_at hl 0 rfl) ?_
    refine zt_getN hx hb hts in_X4 hown hK.1 hT (hY.p hq_4) rfl 7 (by decide) (va_Nw.use (A := args) rfl (hK.2.1.1 _ _ _ _ _ _ q397)) (fun _ h => h) rfl dX1_ofPart_90 ?_
    refine lv_goto (tgt := 150) hx hb dX1_ofPart_93 (by decide) ?_
    have hY0 := hY.hid 0 0 0 (Or.inl rfl)
    have e1 : m_ofPart X x (nI 3) = (X 6 x.toNatClampNeg, zu X 0 0 0) := by unfold m_ofPart; rw [if_neg (by rw [hm_2]; decide), if_neg (by decide), if_neg (by decide), if_pos (by decide), if_pos (by decide)]
    exact vx_ret (ze_i hx hb hr hlocks hS dX1_ofPart_150 (by show _ ≤ 2; omega) (by show _ ≤ 12; omega) T (by rw [e1]; exact ⟨⟨rfl, by simp [zu]⟩, hY0⟩) hT)
  · refine lv_tableIn (x := nI 4) (off := 73) (tgt := 96) hx hb dX1_ofPart_23 (by decide) (by decide) rfl (by decide) ?_
    refine lv_aload_n hx hb dX1_ofPart_96 rfl (lv_at hl 0 rfl) ?_
    refine zt_getN hx hb hts in_X4 hown hK.1 hT (hY.p hq_4) rfl 8 (by decide) (va_Nw.use (A := args) rfl (hK.2.1.1 _ _ _ _ _ _ q399)) (fun _ h => h) rfl dX1_ofPart_97 ?_
    refine lv_goto (tgt := 150) hx hb dX1_ofPart_100 (by decide) ?_
    have hY0 := hY.hid 0 0 0 (Or.inl rfl)
    have e1 : m_ofPart X x (nI 4) = (X 7 x.toNatClampNeg, zu X 0 0 0) := by unfold m_ofPart; rw [if_neg (by rw [hm_2]; decide), if_neg (by decide), if_neg (by decide), if_pos (by decide), if_neg (by decide), if_pos (by decide)]
    exact vx_ret (ze_i hx hb hr hlocks hS dX1_ofPart_150 (by show _ ≤ 2; omega) (by show _ ≤ 12; omega) T (by rw [e1]; exact ⟨⟨rfl, by simp [zu]⟩, hY0⟩) hT)
  · refine lv_tableIn (x := nI 5) (off := 80) (tgt := 103) hx hb dX1_ofPart_23 (by decide) (by decide) rfl (by decide) ?_
    refine lv_aload_n hx hb dX1_ofPart_103 rfl (lv_at hl 0 rfl) ?_
    refine zt_getN hx hb hts in_X4 hown hK.1 hT (hY.p hq_4) rfl 9 (by decide) (va_Nw.use (A := args) rfl (hK.2.1.1 _ _ _ _ _ _ q400)) (fun _ h => h) rfl dX1_ofPart_104 ?_
    refine lv_goto (tgt := 150) hx hb dX1_ofPart_107 (by decide) ?_
    have hY0 := hY.hid 0 0 0 (Or.inl rfl)
    have e1 : m_ofPart X x (nI 5) = (X 8 x.toNatClampNeg, zu X 0 0 0) := by unfold m_ofPart; rw [if_neg (by rw [hm_2]; decide), if_neg (by decide), if_neg (by decide), if_pos (by decide), if_neg (by decide), if_neg (by decide)]
    exact vx_ret (ze_i hx hb hr hlocks hS dX1_ofPart_150 (by show _ ≤ 2; omega) (by show _ ≤ 12; omega) T (by rw [e1]; exact ⟨⟨rfl, by simp [zu]⟩, hY0⟩) hT)
  · refine lv_tableIn (x := nI 6) (off := 87) (tgt := 110) hx hb dX1_ofPart_23 (by decide) (by decide) rfl (by decide) ?_
    refine lv_aload_n hx hb dX1_ofPart_110 rfl (lv_at hl 0 rfl) ?_
    refine zt_getN hx hb hts in_X4 hown hK.1 hT (hY.p hq_4) rfl 10 (by decide) (va_Nw.use (A := args) rfl (hK.2.1.1 _ _ _ _ _ _ q401)) (fun _ h => h) rfl dX1_ofPart_111 ?_
    refine lv_if_eq (tgt := 121) hx hb dX1_ofPart_114 (by decide) (fun c_6 => ?_) (fun c_6 => ?_)
    · refine lv_iconst (v := 0) hx hb dX1_ofPart_121 (by decide) ?_
      refine lv_goto (tgt := 150) hx hb dX1_ofPart_122 (by decide) ?_
      have hY0 := hY.hid 0 0 0 (Or.inl rfl)
      have e1 : m_ofPart X x (nI 6) = (0, zu X 0 0 0) := by unfold m_ofPart; rw [if_neg (by rw [hm_2]; decide), if_neg (by decide), if_neg (by decide), if_neg (by decide), if_pos (by decide)]; rw [if_pos c_6]
      exact vx_ret (ze_i hx hb hr hlocks hS dX1_ofPart_150 (by show _ ≤ 2; omega) (by show _ ≤ 12; omega) T (by rw [e1]; exact ⟨⟨rfl, by simp [zu]⟩, hY0⟩) hT)
    · refine lv_iconst (v := 1) hx hb dX1_ofPart_117 (by decide) ?_
      refine lv_goto (tgt := 150) hx hb dX1_ofPart_118 (by decide) ?_
      have hY0 := hY.hid 0 0 0 (Or.inl rfl)
      have e1 : m_ofPart X x (nI 6) = (1, zu X 0 0 0) := by unfold m_ofPart; rw [if_neg (by rw [hm_2]; decide), if_neg (by decide), if_neg (by decide), if_neg (by decide), if_pos (by decide)]; rw [if_neg c_6]
      exact vx_ret (ze_i hx hb hr hlocks hS dX1_ofPart_150 (by show _ ≤ 2; omega) (by show _ ≤ 12; omega) T (by rw [e1]; exact ⟨⟨rfl, by simp [zu]⟩, hY0⟩) hT)
  · refine lv_tableIn (x := nI 7) (off := 102) (tgt := 125) hx hb dX1_ofPart_23 (by decide) (by decide) rfl (by decide) ?_
    refine lv_aload_n hx hb dX1_ofPart_125 rfl (lv_at hl 0 rfl) ?_
    refine zt_getN hx hb hts in_X4 hown hK.1 hT (hY.p hq_4) rfl 11 (by decide) (va_Nw.use (A := args) rfl (hK.2.1.1 _ _ _ _ _ _ q403)) (fun _ h => h) rfl dX1_ofPart_126 ?_
    refine lv_if_eq (tgt := 136) hx hb dX1_ofPart_129 (by decide) (fun c_7 => ?_) (fun c_7 => ?_)
    · refine lv_iconst (v := 0) hx hb dX1_ofPart_136 (by decide) ?_
      refine lv_goto (tgt := 150) hx hb dX1_ofPart_137 (by decide) ?_
      have hY0 := hY.hid 0 0 0 (Or.inl rfl)
      have e1 : m_ofPart X x (nI 7) = (0, zu X 0 0 0) := by unfold m_ofPart; rw [if_neg (by rw [hm_2]; decide), if_neg (by decide), if_neg (by decide), if_neg (by decide), if_neg (by decide), if_pos (by decide)]; rw [if_pos c_7]
      exact vx_ret (ze_i hx hb hr hlocks hS dX1_ofPart_150 (by show _ ≤ 2; omega) (by show _ ≤ 12; omega) T (by rw [e1]; exact ⟨⟨rfl, by simp [zu]⟩, hY0⟩) hT)
    · refine lv_iconst (v := 1) hx hb dX1_ofPart_132 (by decide) ?_
      refine lv_goto (tgt := 150) hx hb dX1_ofPart_133 (by decide) ?_
      have hY0 := hY.hid 0 0 0 (Or.inl rfl)
      have e1 : m_ofPart X x (nI 7) = (1, zu X 0 0 0) := by unfold m_ofPart; rw [if_neg (by rw [hm_2]; decide), if_neg (by decide), if_neg (by decide), if_neg (by decide), if_neg (by decide), if_pos (by decide)]; rw [if_neg c_7]
      exact vx_ret (ze_i hx hb hr hlocks hS dX1_ofPart_150 (by show _ ≤ 2; omega) (by show _ ≤ 12; omega) T (by rw [e1]; exact ⟨⟨rfl, by simp [zu]⟩, hY0⟩) hT)
  · refine lv_tableOut (x := nI 8) (tgt := 140) hx hb dX1_ofPart_23 (by decide) (by decide) ?_
    refine lv_aload_n hx hb dX1_ofPart_140 rfl (lv_at hl 0 rfl) ?_
    refine zt_getN hx hb hts in_X4 hown hK.1 hT (hY.p hq_4) rfl 4 (by decide) (va_Nw.use (A := args) rfl (hK.2.1.1 _ _ _ _ _ _ q391)) (fun _ h => h) rfl dX1_ofPart_141 ?_
    refine zt_getN hx hb hts in_X5 hown hK.1 hT (hY.t hq_4) rfl 0 (by decide) (va_Nw.use (A := args) rfl (hK.2.1.1 _ _ _ _ _ _ q371)) (fun _ h => h) rfl dX1_ofPart_144 ?_
    refine zc_i (zr_V (As := []) (rest := []) ⟨hx, hb, hml, hown, hts⟩ (ct_J2_size l g A T _ (S.mu (22 + 4 * x.toNatClampNeg)) _ (hY.l hq_4)) zn_J2_size (lw_V q225 q226 q227 q43 q228) rfl (by decide) (by decide) hK (fun _ h => h) hS hT (zt_recvL hK.1 hT (hY.l hq_4)) rfl hl.1 (Nat.le_of_ble_eq_true rfl) dX1_ofPart_147 ⟨by show _ + 0 ≤ _; omega, by show _ + 0 ≤ _; omega⟩) hS (fun _ h => h) (fun r _ H locs hr1 hT _ _ hS => ?_)
    subst hr1
    refine zm_topi (y := nI ((S.TL x.toNatClampNeg).length)) (by first | (simp; done) | exact congrArg nI (List.length_map _)) ?_
    have hY0 := hY.hid 0 0 0 (Or.inl rfl)
    have e1 : m_ofPart X x (nI 8) = (nI ((S.TL x.toNatClampNeg).length), zu X 0 0 0) := by unfold m_ofPart; rw [if_neg (by rw [hm_2]; decide), if_neg (by decide), if_neg (by decide), if_neg (by decide), if_neg (by decide), if_neg (by decide)]; rw [hMp _ hq_4, ← hxe]
    exact vx_ret (ze_i hx hb hr hlocks hS dX1_ofPart_150 (by show _ ≤ 2; omega) (by show _ ≤ 12; omega) T (by rw [e1]; exact ⟨⟨rfl, by simp [zu]⟩, hY0⟩) hT)
theorem zn_X1_trace : zN yX1_trace 2 := by decide +kernel
set_option maxHeartbeats 4000000 in
theorem ct_X1_trace (l : Launch) (hl0 : l.stackTraces = false) (g : zG) (A : Nat → Prop) (S : zS) (X : zX) (T : zT) (hY : zSy S g X T) (hI : MH X) (hO : zTo S X) (hMp : ∀ i, i < mN X → (S.TL i).length = mMp X (nI i)) (hTr : ∀ i, i < mN X → ∀ k o, (S.TL i)[k]? = some o → X 25 (mTr X (nI i) k) = if X 5 i = -2 ∧ k + 1 = (S.TL i).length then -2 else zro2 o) (x mv : Int32) : vx_Met l yX1_trace (ws_ yX1_trace cX1_trace 5 (some .int)) (zR 8 2 12) (zP [.ref (S.A 0), .int x, .int mv] g A (zTH g A T)) (va_Qi (fun rz_ (T1 : zT) => (rz_ = (m_trace X x mv).1 ∧ (m_trace X x mv).2 0 0 = 0) ∧ zSy S g (m_trace X x mv).2 T1) (fun T1 t => zTH g A T1 t.heap) A) (zXC (fun E => (E = xIO ∧ (m_trace X x mv).2 0 0 = 1)) g A T) 2 12 A := by
  refine zb_xmet (by decide) (Nat.le_of_ble_eq_true rfl) ?_
  intro p e s m args below meth c ls hx hb hr hml hown hts hlocks hnm hK hT ha_ hl hout
  have hown : s.vm.findClass RX1 = some m.cls := hown
  have hS : va_S A s.heap s.heap [] := va_S.rf
  have hl : lv_has ls 5 [(0, .ref (S.A 0)), (1, .int x), (2, .int mv)] := hl
  refine lv_aload_n hx hb dX1_trace_0 rfl (lv_at hl 0 rfl) ?_
  refine zt_get hx hb hts in_X1 hown hK.1 hT hY.w rfl 0 (by decide) (hts _ q177) (fun _ h => h) rfl dX1_trace_1 ?_
  refine lv_iload_n hx hb dX1_trace_4 rfl (lv_at hl 1 rfl) ?_
  refine zxc_q (zxr_V (As := [.int x]) (rest := []) ⟨hx, hb, hml, hown, hts⟩ (ct_X2_need l hl0 g A S X _ hY hI x) zn_X2_need (lw_V q514 q515 q516 q40 q517) rfl (by decide) (by decide) hK (fun _ h => h) hS hT (zt_recv hK.1 hT hY.rk rfl) rfl hl.1 (Nat.le_of_ble_eq_true rfl) dX1_trace_5 ⟨by show _ + 1 ≤ _; omega, by show _ + 6 ≤ _; omega⟩) hS hout hlocks (fun E hE => by obtain ⟨rfl, h0⟩ := hE; exact ⟨rfl, by unfold m_trace; simp [zu, h0]⟩) (by show _ + 1 ≤ 2; omega) (by show _ + 6 ≤ 12; omega) (fun r _ H locs hr_1 hT _ _ hS => ?_)
  obtain ⟨rfl, hm_2⟩ := hr_1
  obtain ⟨hq_3, hq_4⟩ := mIs_p hI hm_2
  refine zm_top (v' := .ref (S.pa x.toNatClampNeg)) rfl ?_
  refine va_castS hx hb hown (hts _ q356) (hK.1.1 3 _ rfl).2 (zt_recv hK.1 hT (hY.p hq_4) (r := zCl[3]) rfl) dX1_trace_8 ?_
  refine lv_astore_n (lv' := [(3, .ref (S.pa x.toNatClampNeg)), (0, .ref (S.A 0)), (1, .int x), (2, .int mv)]) hx hb dX1_trace_11 rfl hl (by decide) rfl (fun ls hl => ?_)
  refine lv_iload_n hx hb dX1_trace_12 rfl (lv_at hl 3 rfl) ?_
  refine lv_iconst (v := 0) hx hb dX1_trace_13 (by decide) ?_
  refine lv_aload_n hx hb dX1_trace_14 rfl (lv_at hl 0 rfl) ?_
  refine zt_getN hx hb hts in_X4 hown hK.1 hT (hY.p hq_4) rfl 4 (by decide) (va_Nw.use (A := args) rfl (hK.2.1.1 _ _ _ _ _ _ q391)) (fun _ h => h) rfl dX1_trace_15 ?_
  refine zt_getN hx hb hts in_X5 hown hK.1 hT (hY.t hq_4) rfl 0 (by decide) (va_Nw.use (A := args) rfl (hK.2.1.1 _ _ _ _ _ _ q371)) (fun _ h => h) rfl dX1_trace_18 ?_
  refine zc_i (zr_V (As := []) (rest := [.int 0, .int mv]) ⟨hx, hb, hml, hown, hts⟩ (ct_J2_size l g A T _ (S.mu (22 + 4 * x.toNatClampNeg)) _ (hY.l hq_4)) zn_J2_size (lw_V q225 q226 q227 q43 q228) rfl (by decide) (by decide) hK (fun _ h => h) hS hT (zt_recvL hK.1 hT (hY.l hq_4)) rfl hl.1 (Nat.le_of_ble_eq_true rfl) dX1_trace_21 ⟨by show _ + 0 ≤ _; omega, by show _ + 0 ≤ _; omega⟩) hS (fun _ h => h) (fun r _ H locs hr1 hT _ _ hS => ?_)
  subst hr1
  refine zm_topi (y := nI ((S.TL x.toNatClampNeg).length)) (by first | (simp; done) | exact congrArg nI (List.length_map _)) ?_
  refine lv_iconst (v := 1) hx hb dX1_trace_24 (by decide) ?_
  refine lv_isub hx hb dX1_trace_25 ?_
  have hlt := hMp _ hq_4
  have hxe : x = nI x.toNatClampNeg := (mIs_p hI hm_2).1
  rw [← hxe] at hlt
  refine zm_topi (y := nI (mMp X x) - 1) (by rw [hlt]) ?_
  refine zc_i (zr_S (As := [.int mv, .int 0, .int (nI (mMp X x) - 1)]) (rest := []) ⟨hx, hb, hml, hown, hts⟩ (ct_X1_in l g A (zTH g A _) mv 0 (nI (mMp X x) - 1)) zn_X1_in (lw_S q262 q263 q39 q264) (by decide) (by decide) hK (fun _ h => h) hS hT rfl hl.1 (Nat.le_of_ble_eq_true rfl) dX1_trace_26 ⟨by show _ + 0 ≤ _; omega, by show _ + 0 ≤ _; omega⟩) hS (fun _ h => h) (fun r _ H locs hr1 hT _ _ hS => ?_)
  subst hr1
  refine zxc_v (zxr_S (As := [.int (zb (zin mv 0 (nI (mMp X x) - 1)))]) (rest := []) ⟨hx, hb, hml, hown, hts⟩ (ct_X1_needIndex l hl0 g A _ (zin mv 0 (nI (mMp X x) - 1))) zn_X1_needIndex (lw_S q964 q520 q39 q521) (by decide) (by decide) hK (fun _ h => h) hS hT rfl hl.1 (Nat.le_of_ble_eq_true rfl) dX1_trace_29 ⟨by show _ + 1 ≤ _; omega, by show _ + 6 ≤ _; omega⟩) hS hout hlocks (fun E hE => by obtain ⟨rfl, h0⟩ := hE; exact ⟨rfl, by unfold m_trace; simp [zu, h0]⟩) (by show _ + 1 ≤ 2; omega) (by show _ + 6 ≤ 12; omega) (fun _ H locs hx_5 hT _ _ hS => ?_)
  obtain ⟨j, hj, rfl⟩ := zin_m (n := mMp X x) (by have := (hO _ hq_4).1; omega) hx_5
  have hjl : j < (S.TL x.toNatClampNeg).length := by omega
  have hlO := (hO _ hq_4).1
  refine lv_iload_n hx hb dX1_trace_32 rfl (lv_at hl 3 rfl) ?_
  refine lv_aload_n hx hb dX1_trace_33 rfl (lv_at hl 0 rfl) ?_
  refine zt_getN hx hb hts in_X4 hown hK.1 hT (hY.p hq_4) rfl 4 (by decide) (va_Nw.use (A := args) rfl (hK.2.1.1 _ _ _ _ _ _ q391)) (fun _ h => h) rfl dX1_trace_34 ?_
  refine zt_getN hx hb hts in_X5 hown hK.1 hT (hY.t hq_4) rfl 0 (by decide) (va_Nw.use (A := args) rfl (hK.2.1.1 _ _ _ _ _ _ q371)) (fun _ h => h) rfl dX1_trace_37 ?_
  refine zc_i (zr_V (As := []) (rest := [.int (nI j)]) ⟨hx, hb, hml, hown, hts⟩ (ct_J2_size l g A T _ (S.mu (22 + 4 * x.toNatClampNeg)) _ (hY.l hq_4)) zn_J2_size (lw_V q225 q226 q227 q43 q228) rfl (by decide) (by decide) hK (fun _ h => h) hS hT (zt_recvL hK.1 hT (hY.l hq_4)) rfl hl.1 (Nat.le_of_ble_eq_true rfl) dX1_trace_40 ⟨by show _ + 0 ≤ _; omega, by show _ + 0 ≤ _; omega⟩) hS (fun _ h => h) (fun r _ H locs hr1 hT _ _ hS => ?_)
  subst hr1
  refine zm_topi (y := nI ((S.TL x.toNatClampNeg).length)) (by first | (simp; done) | exact congrArg nI (List.length_map _)) ?_
  refine lv_iconst (v := 1) hx hb dX1_trace_43 (by decide) ?_
  refine lv_isub hx hb dX1_trace_44 ?_
  refine zm_topi (y := nI ((S.TL x.toNatClampNeg).length - 1)) (zsub (a := (S.TL x.toNatClampNeg).length) (b := 1) (by omega)) ?_
  refine zl_ne (tgt := 52) (a := j) (b := (S.TL x.toNatClampNeg).length - 1) hx hb (by first | decide | omega) (by first | decide | omega) dX1_trace_45 (by decide) (fun c_6 => ?_) (fun c_6 => ?_)
  · refine lv_iconst (v := 0) hx hb dX1_trace_52 (by decide) ?_
    refine lv_istore (lv' := [(4, .int 0), (3, .ref (S.pa x.toNatClampNeg)), (0, .ref (S.A 0)), (1, .int x), (2, .int (nI j))]) hx hb dX1_trace_53 hl (by decide) rfl (fun ls hl => ?_)
    refine lv_aload_n hx hb dX1_trace_55 rfl (lv_at hl 1 rfl) ?_
    refine zt_getN hx hb hts in_X4 hown hK.1 hT (hY.p hq_4) rfl 6 (by decide) (va_Nw.use (A := args) rfl (hK.2.1.1 _ _ _ _ _ _ q395)) (fun _ h => h) rfl dX1_trace_56 ?_
    refine zl_ifeq (tgt := 72) hx hb dX1_trace_59 (by decide) (fun c_7 => ?_) (fun c_7 => ?_)
    · refine lv_aload_n hx hb dX1_trace_72 rfl (lv_at hl 1 rfl) ?_
      refine zt_getN hx hb hts in_X4 hown hK.1 hT (hY.p hq_4) rfl 4 (by decide) (va_Nw.use (A := args) rfl (hK.2.1.1 _ _ _ _ _ _ q391)) (fun _ h => h) rfl dX1_trace_73 ?_
      refine zt_getN hx hb hts in_X5 hown hK.1 hT (hY.t hq_4) rfl 0 (by decide) (va_Nw.use (A := args) rfl (hK.2.1.1 _ _ _ _ _ _ q371)) (fun _ h => h) rfl dX1_trace_76 ?_
      refine lv_iload_n hx hb dX1_trace_79 rfl (lv_at hl 4 rfl) ?_
      refine zc_q (zr_V (As := [.int (nI j)]) (rest := []) ⟨hx, hb, hml, hown, hts⟩ (ct_J2_get l g A T _ (S.mu (22 + 4 * x.toNatClampNeg)) _ (hY.l hq_4) j (by simpa using (show j < (S.TL x.toNatClampNeg).length from by omega))) zn_J2_get (lw_V q234 q235 q236 q43 q237) rfl (by decide) (by decide) hK (fun _ h => h) hS hT (zt_recvL hK.1 hT (hY.l hq_4)) rfl hl.1 (Nat.le_of_ble_eq_true rfl) dX1_trace_80 ⟨by show _ + 0 ≤ _; omega, by show _ + 0 ≤ _; omega⟩) hS (fun _ h => h) (fun r _ H locs hg_8 hT _ _ hS => ?_)
      obtain ⟨o, ho1⟩ : ∃ o, (S.TL x.toNatClampNeg)[j]? = some o := ⟨_, List.getElem?_eq_getElem (by omega)⟩
      have ho2 : ∀ q, o = some q → q < mN X := (hO _ hq_4).2 o (List.mem_of_getElem? ho1)
      have hr2 : r = o.map S.pa := by rw [hg_8]; exact Option.some.inj ((List.getElem?_eq_getElem _).symm.trans (by rw [List.getElem?_map, ho1]; rfl))
      clear hg_8
      subst hr2
      refine zl_castO hx hb hown (hts _ q356) (hK.1.1 3 _ rfl).2 (fun a ha => ?_) dX1_trace_83 ?_
      · obtain ⟨i, hi, rfl⟩ := Option.map_eq_some_iff.mp ha
        exact zt_recv hK.1 hT (hY.p (ho2 i hi)) (r := zCl[3]) rfl
      refine zc_i (zr_S (As := [va_rf (o.map S.pa)]) (rest := []) ⟨hx, hb, hml, hown, hts⟩ (ct_X1_numberOf l g A S X _ hY o ho2) zn_X1_numberOf (lw_S q940 q941 q39 q942) (by decide) (by decide) hK (fun _ h => h) hS hT rfl hl.1 (Nat.le_of_ble_eq_true rfl) dX1_trace_86 ⟨by show _ + 0 ≤ _; omega, by show _ + 0 ≤ _; omega⟩) hS (fun _ h => h) (fun r _ H locs hr1 hT _ _ hS => ?_)
      subst hr1
      have hzz : zin (nI j) 0 (nI (mMp X x) - 1) = true := hx_5
      have htr := hTr _ hq_4 _ _ ho1
      rw [if_neg (fun q => (of_decide_eq_false c_7) q.1), ← hxe] at htr
      have hcl : (nI j).toNatClampNeg = j := nI_clamp (by omega)
      have hY0 := hY.hid 0 0 0 (Or.inl rfl)
      have e1 : m_trace X x (nI j) = (zro2 o, zu X 0 0 0) := by unfold m_trace; rw [if_neg (by rw [hm_2, hzz]; decide), hcl, htr]
      exact vx_ret (ze_i hx hb hr hlocks hS dX1_trace_89 (by show _ ≤ 2; omega) (by show _ ≤ 12; omega) T (by rw [e1]; exact ⟨⟨rfl, by simp [zu]⟩, hY0⟩) hT)
    · refine lv_iload hx hb dX1_trace_62 (lv_at hl 0 rfl) ?_
      refine lv_if_eq (tgt := 72) hx hb dX1_trace_64 (by decide) (fun _ => ?_) (fun c_9 => absurd (by decide) c_9)
      refine lv_aload_n hx hb dX1_trace_72 rfl (lv_at hl 1 rfl) ?_
      refine zt_getN hx hb hts in_X4 hown hK.1 hT (hY.p hq_4) rfl 4 (by decide) (va_Nw.use (A := args) rfl (hK.2.1.1 _ _ _ _ _ _ q391)) (fun _ h => h) rfl dX1_trace_73 ?_
      refine zt_getN hx hb hts in_X5 hown hK.1 hT (hY.t hq_4) rfl 0 (by decide) (va_Nw.use (A := args) rfl (hK.2.1.1 _ _ _ _ _ _ q371)) (fun _ h => h) rfl dX1_trace_76 ?_
      refine lv_iload_n hx hb dX1_trace_79 rfl (lv_at hl 4 rfl) ?_
      refine zc_q (zr_V (As := [.int (nI j)]) (rest := []) ⟨hx, hb, hml, hown, hts⟩ (ct_J2_get l g A T _ (S.mu (22 + 4 * x.toNatClampNeg)) _ (hY.l hq_4) j (by simpa using (show j < (S.TL x.toNatClampNeg).length from by omega))) zn_J2_get (lw_V q234 q235 q236 q43 q237) rfl (by decide) (by decide) hK (fun _ h => h) hS hT (zt_recvL hK.1 hT (hY.l hq_4)) rfl hl.1 (Nat.le_of_ble_eq_true rfl) dX1_trace_80 ⟨by show _ + 0 ≤ _; omega, by show _ + 0 ≤ _; omega⟩) hS (fun _ h => h) (fun r _ H locs hg_10 hT _ _ hS => ?_)
      obtain ⟨o, ho1⟩ : ∃ o, (S.TL x.toNatClampNeg)[j]? = some o := ⟨_, List.getElem?_eq_getElem (by omega)⟩
      have ho2 : ∀ q, o = some q → q < mN X := (hO _ hq_4).2 o (List.mem_of_getElem? ho1)
      have hr2 : r = o.map S.pa := by rw [hg_10]; exact Option.some.inj ((List.getElem?_eq_getElem _).symm.trans (by rw [List.getElem?_map, ho1]; rfl))
      clear hg_10
      subst hr2
      refine zl_castO hx hb hown (hts _ q356) (hK.1.1 3 _ rfl).2 (fun a ha => ?_) dX1_trace_83 ?_
      · obtain ⟨i, hi, rfl⟩ := Option.map_eq_some_iff.mp ha
        exact zt_recv hK.1 hT (hY.p (ho2 i hi)) (r := zCl[3]) rfl
      refine zc_i (zr_S (As := [va_rf (o.map S.pa)]) (rest := []) ⟨hx, hb, hml, hown, hts⟩ (ct_X1_numberOf l g A S X _ hY o ho2) zn_X1_numberOf (lw_S q940 q941 q39 q942) (by decide) (by decide) hK (fun _ h => h) hS hT rfl hl.1 (Nat.le_of_ble_eq_true rfl) dX1_trace_86 ⟨by show _ + 0 ≤ _; omega, by show _ + 0 ≤ _; omega⟩) hS (fun _ h => h) (fun r _ H locs hr1 hT _ _ hS => ?_)
      subst hr1
      have hzz : zin (nI j) 0 (nI (mMp X x) - 1) = true := hx_5
      have htr := hTr _ hq_4 _ _ ho1
      rw [if_neg (fun q => absurd q.2 (by omega)), ← hxe] at htr
      have hcl : (nI j).toNatClampNeg = j := nI_clamp (by omega)
      have hY0 := hY.hid 0 0 0 (Or.inl rfl)
      have e1 : m_trace X x (nI j) = (zro2 o, zu X 0 0 0) := by unfold m_trace; rw [if_neg (by rw [hm_2, hzz]; decide), hcl, htr]
      exact vx_ret (ze_i hx hb hr hlocks hS dX1_trace_89 (by show _ ≤ 2; omega) (by show _ ≤ 12; omega) T (by rw [e1]; exact ⟨⟨rfl, by simp [zu]⟩, hY0⟩) hT)
  · refine lv_iconst (v := 1) hx hb dX1_trace_48 (by decide) ?_
    refine lv_goto (tgt := 53) hx hb dX1_trace_49 (by decide) ?_
    refine lv_istore (lv' := [(4, .int 1), (3, .ref (S.pa x.toNatClampNeg)), (0, .ref (S.A 0)), (1, .int x), (2, .int (nI j))]) hx hb dX1_trace_53 hl (by decide) rfl (fun ls hl => ?_)
    refine lv_aload_n hx hb dX1_trace_55 rfl (lv_at hl 1 rfl) ?_
    refine zt_getN hx hb hts in_X4 hown hK.1 hT (hY.p hq_4) rfl 6 (by decide) (va_Nw.use (A := args) rfl (hK.2.1.1 _ _ _ _ _ _ q395)) (fun _ h => h) rfl dX1_trace_56 ?_
    refine zl_ifeq (tgt := 72) hx hb dX1_trace_59 (by decide) (fun c_11 => ?_) (fun c_11 => ?_)
    · refine lv_aload_n hx hb dX1_trace_72 rfl (lv_at hl 1 rfl) ?_
      refine zt_getN hx hb hts in_X4 hown hK.1 hT (hY.p hq_4) rfl 4 (by decide) (va_Nw.use (A := args) rfl (hK.2.1.1 _ _ _ _ _ _ q391)) (fun _ h => h) rfl dX1_trace_73 ?_
      refine zt_getN hx hb hts in_X5 hown hK.1 hT (hY.t hq_4) rfl 0 (by decide) (va_Nw.use (A := args) rfl (hK.2.1.1 _ _ _ _ _ _ q371)) (fun _ h => h) rfl dX1_trace_76 ?_
      refine lv_iload_n hx hb dX1_trace_79 rfl (lv_at hl 4 rfl) ?_
      refine zc_q (zr_V (As := [.int (nI j)]) (rest := []) ⟨hx, hb, hml, hown, hts⟩ (ct_J2_get l g A T _ (S.mu (22 + 4 * x.toNatClampNeg)) _ (hY.l hq_4) j (by simpa using (show j < (S.TL x.toNatClampNeg).length from by omega))) zn_J2_get (lw_V q234 q235 q236 q43 q237) rfl (by decide) (by decide) hK (fun _ h => h) hS hT (zt_recvL hK.1 hT (hY.l hq_4)) rfl hl.1 (Nat.le_of_ble_eq_true rfl) dX1_trace_80 ⟨by show _ + 0 ≤ _; omega, by show _ + 0 ≤ _; omega⟩) hS (fun _ h => h) (fun r _ H locs hg_12 hT _ _ hS => ?_)
      obtain ⟨o, ho1⟩ : ∃ o, (S.TL x.toNatClampNeg)[j]? = some o := ⟨_, List.getElem?_eq_getElem (by omega)⟩
      have ho2 : ∀ q, o = some q → q < mN X := (hO _ hq_4).2 o (List.mem_of_getElem? ho1)
      have hr2 : r = o.map S.pa := by rw [hg_12]; exact Option.some.inj ((List.getElem?_eq_getElem _).symm.trans (by rw [List.getElem?_map, ho1]; rfl))
      clear hg_12
      subst hr2
      refine zl_castO hx hb hown (hts _ q356) (hK.1.1 3 _ rfl).2 (fun a ha => ?_) dX1_trace_83 ?_
      · obtain ⟨i, hi, rfl⟩ := Option.map_eq_some_iff.mp ha
        exact zt_recv hK.1 hT (hY.p (ho2 i hi)) (r := zCl[3]) rfl
      refine zc_i (zr_S (As := [va_rf (o.map S.pa)]) (rest := []) ⟨hx, hb, hml, hown, hts⟩ (ct_X1_numberOf l g A S X _ hY o ho2) zn_X1_numberOf (lw_S q940 q941 q39 q942) (by decide) (by decide) hK (fun _ h => h) hS hT rfl hl.1 (Nat.le_of_ble_eq_true rfl) dX1_trace_86 ⟨by show _ + 0 ≤ _; omega, by show _ + 0 ≤ _; omega⟩) hS (fun _ h => h) (fun r _ H locs hr1 hT _ _ hS => ?_)
      subst hr1
      have hzz : zin (nI j) 0 (nI (mMp X x) - 1) = true := hx_5
      have htr := hTr _ hq_4 _ _ ho1
      rw [if_neg (fun q => (of_decide_eq_false c_11) q.1), ← hxe] at htr
      have hcl : (nI j).toNatClampNeg = j := nI_clamp (by omega)
      have hY0 := hY.hid 0 0 0 (Or.inl rfl)
      have e1 : m_trace X x (nI j) = (zro2 o, zu X 0 0 0) := by unfold m_trace; rw [if_neg (by rw [hm_2, hzz]; decide), hcl, htr]
      exact vx_ret (ze_i hx hb hr hlocks hS dX1_trace_89 (by show _ ≤ 2; omega) (by show _ ≤ 12; omega) T (by rw [e1]; exact ⟨⟨rfl, by simp [zu]⟩, hY0⟩) hT)
    · refine lv_iload hx hb dX1_trace_62 (lv_at hl 0 rfl) ?_
      refine lv_if_eq (tgt := 72) hx hb dX1_trace_64 (by decide) (fun c_13 => absurd c_13 (by decide)) (fun _ => ?_)
      refine lv_bipush (v := (-2)) hx hb dX1_trace_67 (by decide) ?_
      refine lv_goto (tgt := 89) hx hb dX1_trace_69 (by decide) ?_
      have hzz : zin (nI j) 0 (nI (mMp X x) - 1) = true := hx_5
      obtain ⟨o, ho1⟩ : ∃ o, (S.TL x.toNatClampNeg)[j]? = some o := ⟨_, List.getElem?_eq_getElem (by omega)⟩
      have htr := hTr _ hq_4 _ _ ho1
      rw [if_pos ⟨of_decide_eq_true c_11, by omega⟩, ← hxe] at htr
      have hcl : (nI j).toNatClampNeg = j := nI_clamp (by omega)
      have hY0 := hY.hid 0 0 0 (Or.inl rfl)
      have e1 : m_trace X x (nI j) = ((-2), zu X 0 0 0) := by unfold m_trace; rw [if_neg (by rw [hm_2, hzz]; decide), hcl, htr]
      exact vx_ret (ze_i hx hb hr hlocks hS dX1_trace_89 (by show _ ≤ 2; omega) (by show _ ≤ 12; omega) T (by rw [e1]; exact ⟨⟨rfl, by simp [zu]⟩, hY0⟩) hT)
theorem zn_X1_plan : zN yX1_plan 0 := by decide +kernel
set_option maxHeartbeats 4000000 in
theorem ct_X1_plan (l : Launch) (g : zG) (A : Nat → Prop) (S : zS) (X : zX) (T : zT) (hY : zSy S g X T) (hW : zWo S X) (hWl : S.Wt.length = mW X) (hpl : ¬ mW X = 0 → (zsr S true).1 = (m_plans (zu X 0 0 0)).1) : Met l yX1_plan (ws_ yX1_plan cX1_plan 1 (some .int)) (zR 16 0 0) (zP [.ref (S.A 0)] g A (zTH g A T)) (va_Qi (fun rz_ (u : zS × zT) => (rz_ = (m_plan X).1 ∧ (m_plan X).2 0 0 = 0) ∧ zSy u.1 g (m_plan X).2 u.2 ∧ ∃ s3, u.1 = S.gv s3) (fun u t => zTH g A u.2 t.heap) A) 0 0 A := by
  refine zb_met (by decide) (Nat.le_of_ble_eq_true rfl) ?_
  intro p e s m args below meth c ls hx hb hr hml hown hts hlocks hnm hK hT ha_ hl
  have hown : s.vm.findClass RX1 = some m.cls := hown
  have hS : va_S A s.heap s.heap [] := va_S.rf
  have hl : lv_has ls 1 [(0, .ref (S.A 0))] := hl
  refine lv_aload_n hx hb dX1_plan_0 rfl (lv_at hl 0 rfl) ?_
  refine zt_get hx hb hts in_X1 hown hK.1 hT hY.w rfl 5 (by decide) (hts _ q182) (fun _ h => h) rfl dX1_plan_1 ?_
  refine zc_i (zr_V (As := []) (rest := []) ⟨hx, hb, hml, hown, hts⟩ (ct_J2_isEmpty l g A T _ (S.mu 7) _ hY.wl) zn_J2_isEmpty (lw_V q213 q214 q215 q43 q216) rfl (by decide) (by decide) hK (fun _ h => h) hS hT (zt_recvL hK.1 hT hY.wl) rfl hl.1 (Nat.le_of_ble_eq_true rfl) dX1_plan_4 ⟨by show _ + 0 ≤ _; omega, by show _ + 0 ≤ _; omega⟩) hS (fun _ h => h) (fun r _ H locs hr1 hT _ _ hS => ?_)
  subst hr1
  refine zm_topi (y := zb (decide (S.Wt.length = 0))) (by simp) ?_
  refine zl_ifeq (tgt := 14) hx hb dX1_plan_7 (by decide) (fun c_1 => ?_) (fun c_1 => ?_)
  · refine lv_aload_n hx hb dX1_plan_14 rfl (lv_at hl 0 rfl) ?_
    refine lv_iconst (v := 1) hx hb dX1_plan_15 (by decide) ?_
    refine zc_i (zr_V (As := [.int 1]) (rest := []) ⟨hx, hb, hml, hown, hts⟩ (ct_X1_search l g A S X _ hY hW true) zn_X1_search (lw_V q217 q219 qs3 q39 q220) rfl (by decide) (by decide) hK (fun _ h => h) hS hT (zt_recv hK.1 hT hY.w rfl) rfl hl.1 (Nat.le_of_ble_eq_true rfl) dX1_plan_16 ⟨by show _ + 0 ≤ _; omega, by show _ + 0 ≤ _; omega⟩) hS (fun _ h => h) (fun r T H locs hr1 hT _ _ hS => ?_)
    obtain ⟨rfl, hY⟩ := hr1
    have hw0 : ¬ mW X = 0 := fun z => (of_decide_eq_false c_1) (by rw [hWl]; exact z)
    have e1 : m_plan X = m_plans (zu X 0 0 0) := by unfold m_plan; rw [if_neg hw0]
    exact ze_i hx hb hr hlocks hS dX1_plan_19 (Nat.zero_le _) (Nat.zero_le _) (S.gv (zsr S true), T) (by rw [e1]; exact ⟨⟨hpl hw0, (by rw [show (m_plans (zu X 0 0 0)).2 0 = zu X 0 0 0 0 from mPs_pr _ _ 0 (by decide) (by decide)]; exact zu_s X 0 0 0)⟩, hY.hidR (m_plans_hid X), _, rfl⟩) hT
  · refine lv_iconst (v := 0) hx hb dX1_plan_10 (by decide) ?_
    refine lv_goto (tgt := 19) hx hb dX1_plan_11 (by decide) ?_
    have hw0 : mW X = 0 := by rw [← hWl]; exact of_decide_eq_true c_1
    have e1 : m_plan X = (0, zu X 0 0 0) := by unfold m_plan; rw [if_pos hw0]
    exact ze_i hx hb hr hlocks hS dX1_plan_19 (Nat.zero_le _) (Nat.zero_le _) (S, T) (by rw [e1]; exact ⟨⟨rfl, by simp [zu]⟩, hY.hid 0 0 0 (Or.inl rfl), (S.few, S.tf, S.bf), rfl⟩) hT
theorem zn_X1_planAnew : zN yX1_planAnew 0 := by decide +kernel
set_option maxHeartbeats 4000000 in
theorem ct_X1_planAnew (l : Launch) (g : zG) (A : Nat → Prop) (S : zS) (X : zX) (T : zT) (hY : zSy S g X T) (hW : zWo S X) (hWl : S.Wt.length = mW X) (hpl : ¬ mW X = 0 → (zsr S false).1 = (m_plans (zu X 0 0 0)).1) : Met l yX1_planAnew (ws_ yX1_planAnew cX1_planAnew 1 (some .int)) (zR 16 0 0) (zP [.ref (S.A 0)] g A (zTH g A T)) (va_Qi (fun rz_ (u : zS × zT) => (rz_ = (m_plan X).1 ∧ (m_plan X).2 0 0 = 0) ∧ zSy u.1 g (m_plan X).2 u.2 ∧ ∃ s3, u.1 = S.gv s3) (fun u t => zTH g A u.2 t.heap) A) 0 0 A := by
  refine zb_met (by decide) (Nat.le_of_ble_eq_true rfl) ?_
  intro p e s m args below meth c ls hx hb hr hml hown hts hlocks hnm hK hT ha_ hl
  have hown : s.vm.findClass RX1 = some m.cls := hown
  have hS : va_S A s.heap s.heap [] := va_S.rf
  have hl : lv_has ls 1 [(0, .ref (S.A 0))] := hl
  refine lv_aload_n hx hb dX1_planAnew_0 rfl (lv_at hl 0 rfl) ?_
  refine zt_get hx hb hts in_X1 hown hK.1 hT hY.w rfl 5 (by decide) (hts _ q182) (fun _ h => h) rfl dX1_planAnew_1 ?_
  refine zc_i (zr_V (As := []) (rest := []) ⟨hx, hb, hml, hown, hts⟩ (ct_J2_isEmpty l g A T _ (S.mu 7) _ hY.wl) zn_J2_isEmpty (lw_V q213 q214 q215 q43 q216) rfl (by decide) (by decide) hK (fun _ h => h) hS hT (zt_recvL hK.1 hT hY.wl) rfl hl.1 (Nat.le_of_ble_eq_true rfl) dX1_planAnew_4 ⟨by show _ + 0 ≤ _; omega, by show _ + 0 ≤ _; omega⟩) hS (fun _ h => h) (fun r _ H locs hr1 hT _ _ hS => ?_)
  subst hr1
  refine zm_topi (y := zb (decide (S.Wt.length = 0))) (by simp) ?_
  refine zl_ifeq (tgt := 14) hx hb dX1_planAnew_7 (by decide) (fun c_1 => ?_) (fun c_1 => ?_)
  · refine lv_aload_n hx hb dX1_planAnew_14 rfl (lv_at hl 0 rfl) ?_
    refine lv_iconst (v := 0) hx hb dX1_planAnew_15 (by decide) ?_
    refine zc_i (zr_V (As := [.int 0]) (rest := []) ⟨hx, hb, hml, hown, hts⟩ (ct_X1_search l g A S X _ hY hW false) zn_X1_search (lw_V q217 q219 qs3 q39 q220) rfl (by decide) (by decide) hK (fun _ h => h) hS hT (zt_recv hK.1 hT hY.w rfl) rfl hl.1 (Nat.le_of_ble_eq_true rfl) dX1_planAnew_16 ⟨by show _ + 0 ≤ _; omega, by show _ + 0 ≤ _; omega⟩) hS (fun _ h => h) (fun r T H locs hr1 hT _ _ hS => ?_)
    obtain ⟨rfl, hY⟩ := hr1
    have hw0 : ¬ mW X = 0 := fun z => (of_decide_eq_false c_1) (by rw [hWl]; exact z)
    have e1 : m_plan X = m_plans (zu X 0 0 0) := by unfold m_plan; rw [if_neg hw0]
    exact ze_i hx hb hr hlocks hS dX1_planAnew_19 (Nat.zero_le _) (Nat.zero_le _) (S.gv (zsr S false), T) (by rw [e1]; exact ⟨⟨hpl hw0, (by rw [show (m_plans (zu X 0 0 0)).2 0 = zu X 0 0 0 0 from mPs_pr _ _ 0 (by decide) (by decide)]; exact zu_s X 0 0 0)⟩, hY.hidR (m_plans_hid X), _, rfl⟩) hT
  · refine lv_iconst (v := 0) hx hb dX1_planAnew_10 (by decide) ?_
    refine lv_goto (tgt := 19) hx hb dX1_planAnew_11 (by decide) ?_
    have hw0 : mW X = 0 := by rw [← hWl]; exact of_decide_eq_true c_1
    have e1 : m_plan X = (0, zu X 0 0 0) := by unfold m_plan; rw [if_pos hw0]
    exact ze_i hx hb hr hlocks hS dX1_planAnew_19 (Nat.zero_le _) (Nat.zero_le _) (S, T) (by rw [e1]; exact ⟨⟨rfl, by simp [zu]⟩, hY.hid 0 0 0 (Or.inl rfl), (S.few, S.tf, S.bf), rfl⟩) hT
theorem zn_X1_road : zN yX1_road 2 := by decide +kernel
set_option maxHeartbeats 4000000 in
theorem ct_X1_road (l : Launch) (hl0 : l.stackTraces = false) (g : zG) (A : Nat → Prop) (S : zS) (X : zX) (T : zT) (hY : zSy S g X T) (hW : zWo S X) (hRl : ∀ r, r < 3 → (S.Rd r).length = mR X r) (hRe : ∀ r, r < 3 → ∀ k e, (S.Rd r)[k]? = some e → X 32 (4 * r + k) = nI e.2.1) (ro pl : Int32) : vx_Met l yX1_road (ws_ yX1_road cX1_road 4 (some .int)) (zR 7 1 6) (zP [.ref (S.A 0), .int ro, .int pl] g A (zTH g A T)) (va_Qi (fun rz_ (T1 : zT) => (rz_ = (m_road X ro pl).1 ∧ (m_road X ro pl).2 0 0 = 0) ∧ zSy S g (m_road X ro pl).2 T1) (fun T1 t => zTH g A T1 t.heap) A) (zXC (fun E => (E = xIO ∧ (m_road X ro pl).2 0 0 = 1)) g A T) 1 6 A := by
  refine zb_xmet (by decide) (Nat.le_of_ble_eq_true rfl) ?_
  intro p e s m args below meth c ls hx hb hr hml hown hts hlocks hnm hK hT ha_ hl hout
  have hown : s.vm.findClass RX1 = some m.cls := hown
  have hS : va_S A s.heap s.heap [] := va_S.rf
  have hl : lv_has ls 4 [(0, .ref (S.A 0)), (1, .int ro), (2, .int pl)] := hl
  refine lv_iload_n hx hb dX1_road_0 rfl (lv_at hl 1 rfl) ?_
  refine lv_iconst (v := 0) hx hb dX1_road_1 (by decide) ?_
  refine lv_iconst (v := 2) hx hb dX1_road_2 (by decide) ?_
  refine zc_i (zr_S (As := [.int ro, .int 0, .int 2]) (rest := []) ⟨hx, hb, hml, hown, hts⟩ (ct_X1_in l g A (zTH g A _) ro 0 2) zn_X1_in (lw_S q262 q263 q39 q264) (by decide) (by decide) hK (fun _ h => h) hS hT rfl hl.1 (Nat.le_of_ble_eq_true rfl) dX1_road_3 ⟨by show _ + 0 ≤ _; omega, by show _ + 0 ≤ _; omega⟩) hS (fun _ h => h) (fun r _ H locs hr1 hT _ _ hS => ?_)
  subst hr1
  refine zl_ifeq (tgt := 17) hx hb dX1_road_6 (by decide) (fun c_1 => ?_) (fun c_1 => ?_)
  · refine lv_iconst (v := 0) hx hb dX1_road_17 (by decide) ?_
    refine zm_topi (y := zb false) rfl ?_
    refine zxc_v (zxr_S (As := [.int (zb false)]) (rest := []) ⟨hx, hb, hml, hown, hts⟩ (ct_X1_needIndex l hl0 g A _ false) zn_X1_needIndex (lw_S q964 q520 q39 q521) (by decide) (by decide) hK (fun _ h => h) hS hT rfl hl.1 (Nat.le_of_ble_eq_true rfl) dX1_road_18 ⟨by show _ + 1 ≤ _; omega, by show _ + 6 ≤ _; omega⟩) hS hout hlocks (fun E hE => by obtain ⟨rfl, h0⟩ := hE; exact ⟨rfl, by unfold m_road; first | exact absurd h0 (by decide) | (simp [zu, c_1])⟩) (by show _ + 1 ≤ 1; omega) (by show _ + 6 ≤ 6; omega) (fun _ H locs hx_2 hT _ _ hS => ?_)
    cases hx_2
  · refine lv_iload_n hx hb dX1_road_9 rfl (lv_at hl 2 rfl) ?_
    refine lv_if_lt (tgt := 17) hx hb dX1_road_10 (by decide) (fun c_3 => ?_) (fun c_3 => ?_)
    · refine lv_iconst (v := 0) hx hb dX1_road_17 (by decide) ?_
      refine zm_topi (y := zb false) rfl ?_
      refine zxc_v (zxr_S (As := [.int (zb false)]) (rest := []) ⟨hx, hb, hml, hown, hts⟩ (ct_X1_needIndex l hl0 g A _ false) zn_X1_needIndex (lw_S q964 q520 q39 q521) (by decide) (by decide) hK (fun _ h => h) hS hT rfl hl.1 (Nat.le_of_ble_eq_true rfl) dX1_road_18 ⟨by show _ + 1 ≤ _; omega, by show _ + 6 ≤ _; omega⟩) hS hout hlocks (fun E hE => by obtain ⟨rfl, h0⟩ := hE; exact ⟨rfl, by unfold m_road; first | exact absurd h0 (by decide) | (simp [zu, c_1, c_3])⟩) (by show _ + 1 ≤ 1; omega) (by show _ + 6 ≤ 6; omega) (fun _ H locs hx_4 hT _ _ hS => ?_)
      cases hx_4
    · refine lv_iconst (v := 1) hx hb dX1_road_13 (by decide) ?_
      refine lv_goto (tgt := 18) hx hb dX1_road_14 (by decide) ?_
      refine zm_topi (y := zb true) rfl ?_
      refine zxc_v (zxr_S (As := [.int (zb true)]) (rest := []) ⟨hx, hb, hml, hown, hts⟩ (ct_X1_needIndex l hl0 g A _ true) zn_X1_needIndex (lw_S q964 q520 q39 q521) (by decide) (by decide) hK (fun _ h => h) hS hT rfl hl.1 (Nat.le_of_ble_eq_true rfl) dX1_road_18 ⟨by show _ + 1 ≤ _; omega, by show _ + 6 ≤ _; omega⟩) hS hout hlocks (fun E hE => by obtain ⟨rfl, h0⟩ := hE; exact ⟨rfl, by unfold m_road; first | exact absurd h0 (by decide) | (simp [zu, c_1, c_3])⟩) (by show _ + 1 ≤ 1; omega) (by show _ + 6 ≤ 6; omega) (fun _ H locs hx_5 hT _ _ hS => ?_)
      refine lv_aload_n hx hb dX1_road_21 rfl (lv_at hl 0 rfl) ?_
      refine zt_get hx hb hts in_X1 hown hK.1 hT hY.w rfl 6 (by decide) (hts _ q183) (fun _ h => h) rfl dX1_road_22 ?_
      refine lv_iload_n hx hb dX1_road_25 rfl (lv_at hl 1 rfl) ?_
      obtain ⟨j, hj, rfl⟩ := zin_n (b := 2) rfl c_1
      rcases (show j = 0 ∨ j = 1 ∨ j = 2 by omega) with rfl | rfl | rfl
      · refine zc_q (zr_V (As := [.int (nI 0)]) (rest := []) ⟨hx, hb, hml, hown, hts⟩ (ct_J2_get l g A T _ (S.mu 8) _ hY.rds 0 (by simpa using (by decide : 0 < 3))) zn_J2_get (lw_V q234 q235 q236 q43 q237) rfl (by decide) (by decide) hK (fun _ h => h) hS hT (zt_recvL hK.1 hT hY.rds) rfl hl.1 (Nat.le_of_ble_eq_true rfl) dX1_road_26 ⟨by show _ + 0 ≤ _; omega, by show _ + 0 ≤ _; omega⟩) hS (fun _ h => h) (fun r _ H locs hg_6 hT _ _ hS => ?_)
        subst hg_6
        refine zm_top (v' := .ref (S.A (11 + 0))) rfl ?_
        refine va_castS hx hb hown (hts _ q113) (hK.1.1 9 _ rfl).2 (zt_recvL hK.1 hT (hY.ro (show 0 < 3 by decide))) dX1_road_29 ?_
        refine lv_astore_n (lv' := [(3, .ref (S.A (11 + 0))), (0, .ref (S.A 0)), (1, .int (nI 0)), (2, .int pl)]) hx hb dX1_road_32 rfl hl (by decide) rfl (fun ls hl => ?_)
        refine lv_iload_n hx hb dX1_road_33 rfl (lv_at hl 3 rfl) ?_
        obtain ⟨n, hn⟩ : ∃ n : Nat, pl = nI n ∧ n < 2 ^ 31 := ⟨pl.toNatClampNeg, (zcn c_3), zcl _⟩
        obtain ⟨rfl, hn31⟩ := hn
        have hlR := hW.2 0 (by decide)
        refine lv_aload_n hx hb dX1_road_34 rfl (lv_at hl 0 rfl) ?_
        refine zc_i (zr_V (As := []) (rest := [.int (nI n)]) ⟨hx, hb, hml, hown, hts⟩ (ct_J2_size l g A T _ (S.mu (11 + 0)) _ (hY.ro (show 0 < 3 by decide))) zn_J2_size (lw_V q225 q226 q227 q43 q228) rfl (by decide) (by decide) hK (fun _ h => h) hS hT (zt_recvL hK.1 hT (hY.ro (show 0 < 3 by decide))) rfl hl.1 (Nat.le_of_ble_eq_true rfl) dX1_road_35 ⟨by show _ + 0 ≤ _; omega, by show _ + 0 ≤ _; omega⟩) hS (fun _ h => h) (fun r _ H locs hr1 hT _ _ hS => ?_)
        subst hr1
        refine zm_topi (y := nI ((S.Rd 0).length)) (by first | (simp; done) | exact congrArg nI (List.length_map _)) ?_
        refine zl_ge (tgt := 58) (a := n) (b := (S.Rd 0).length) hx hb (by first | decide | omega) (by first | decide | omega) dX1_road_38 (by decide) (fun c_7 => ?_) (fun c_7 => ?_)
        · refine lv_iconst (v := (-1)) hx hb dX1_road_58 (by decide) ?_
          have hmR := hRl 0 (by decide)
          have hz0 : zin (nI 0) 0 2 = true := by decide
          have hcr : (nI 0).toNatClampNeg = 0 := by decide
          have hcn : (nI n).toNatClampNeg = n := nI_clamp hn31
          have hng : ¬ nI n < 0 := nI_pos hn31
          have hY0 := hY.hid 0 0 0 (Or.inl rfl)
          have e1 : m_road X (nI 0) (nI n) = ((-1), zu X 0 0 0) := by unfold m_road; rw [if_neg (by rw [hz0]; simp [hng]), hcr, if_neg (by rw [← hmR]; exact fun z => z (nI_le (by omega) hn31))]
          exact vx_ret (ze_i hx hb hr hlocks hS dX1_road_59 (by show _ ≤ 1; omega) (by show _ ≤ 6; omega) T (by rw [e1]; exact ⟨⟨rfl, by simp [zu]⟩, hY0⟩) hT)
        · refine lv_aload_n hx hb dX1_road_41 rfl (lv_at hl 0 rfl) ?_
          refine lv_iload_n hx hb dX1_road_42 rfl (lv_at hl 3 rfl) ?_
          refine zc_q (zr_V (As := [.int (nI n)]) (rest := []) ⟨hx, hb, hml, hown, hts⟩ (ct_J2_get l g A T _ (S.mu (11 + 0)) _ (hY.ro (show 0 < 3 by decide)) n (by simpa using (show n < (S.Rd 0).length from by omega))) zn_J2_get (lw_V q234 q235 q236 q43 q237) rfl (by decide) (by decide) hK (fun _ h => h) hS hT (zt_recvL hK.1 hT (hY.ro (show 0 < 3 by decide))) rfl hl.1 (Nat.le_of_ble_eq_true rfl) dX1_road_43 ⟨by show _ + 0 ≤ _; omega, by show _ + 0 ≤ _; omega⟩) hS (fun _ h => h) (fun r _ H locs hg_8 hT _ _ hS => ?_)
          obtain ⟨q_9, hq_10, hm_11, hc_12⟩ : ∃ e, (S.Rd 0)[n]? = some e ∧ e.2.1 < mN X ∧ zCg S _ e := ⟨_, List.getElem?_eq_getElem (by omega), (hW.2 _ (show 0 < 3 by decide)).2 _ (List.getElem_mem _), hY.rd _ (show 0 < 3 by decide) _ (List.getElem_mem _)⟩
          have hg_8r : r = some q_9.1 := by rw [hg_8]; exact Option.some.inj ((List.getElem?_eq_getElem _).symm.trans (by rw [List.getElem?_map, hq_10]; rfl))
          clear hg_8
          subst hg_8r
          refine zm_top (v' := .ref q_9.1) rfl ?_
          refine va_castS hx hb hown (hts _ q248) (hK.1.1 8 _ rfl).2 (zt_recv hK.1 hT hc_12 (r := zCl[8]) rfl) dX1_road_46 ?_
          refine zt_getN hx hb hts in_X9 hown hK.1 hT hc_12 rfl 0 (by decide) (va_Nw.use (A := args) rfl (hK.2.1.1 _ _ _ _ _ _ q899)) (fun _ h => h) rfl dX1_road_49 ?_
          refine zt_getN hx hb hts in_X4 hown hK.1 hT (hY.p hm_11) rfl 0 (by decide) (va_Nw.use (A := args) rfl (hK.2.1.1 _ _ _ _ _ _ q383)) (fun _ h => h) rfl dX1_road_52 ?_
          refine lv_goto (tgt := 59) hx hb dX1_road_55 (by decide) ?_
          have hmR := hRl 0 (by decide)
          have hz0 : zin (nI 0) 0 2 = true := by decide
          have hcr : (nI 0).toNatClampNeg = 0 := by decide
          have hcn : (nI n).toNatClampNeg = n := nI_clamp hn31
          have hng : ¬ nI n < 0 := nI_pos hn31
          have hY0 := hY.hid 0 0 0 (Or.inl rfl)
          have e1 : m_road X (nI 0) (nI n) = (nI q_9.2.1, zu X 0 0 0) := by unfold m_road; rw [if_neg (by rw [hz0]; simp [hng]), hcr, hcn, if_pos (by rw [← hmR]; exact fun z => absurd ((nI_leI (by omega) hn31).mp z) (by omega)), hRe 0 (by decide) _ _ hq_10]
          exact vx_ret (ze_i hx hb hr hlocks hS dX1_road_59 (by show _ ≤ 1; omega) (by show _ ≤ 6; omega) T (by rw [e1]; exact ⟨⟨rfl, by simp [zu]⟩, hY0⟩) hT)
      · refine zc_q (zr_V (As := [.int (nI 1)]) (rest := []) ⟨hx, hb, hml, hown, hts⟩ (ct_J2_get l g A T _ (S.mu 8) _ hY.rds 1 (by simpa using (by decide : 1 < 3))) zn_J2_get (lw_V q234 q235 q236 q43 q237) rfl (by decide) (by decide) hK (fun _ h => h) hS hT (zt_recvL hK.1 hT hY.rds) rfl hl.1 (Nat.le_of_ble_eq_true rfl) dX1_road_26 ⟨by show _ + 0 ≤ _; omega, by show _ + 0 ≤ _; omega⟩) hS (fun _ h => h) (fun r _ H locs hg_13 hT _ _ hS => ?_)
        subst hg_13
        refine zm_top (v' := .ref (S.A (11 + 1))) rfl ?_
        refine va_castS hx hb hown (hts _ q113) (hK.1.1 9 _ rfl).2 (zt_recvL hK.1 hT (hY.ro (show 1 < 3 by decide))) dX1_road_29 ?_
        refine lv_astore_n (lv' := [(3, .ref (S.A (11 + 1))), (0, .ref (S.A 0)), (1, .int (nI 1)), (2, .int pl)]) hx hb dX1_road_32 rfl hl (by decide) rfl (fun ls hl => ?_)
        refine lv_iload_n hx hb dX1_road_33 rfl (lv_at hl 3 rfl) ?_
        obtain ⟨n, hn⟩ : ∃ n : Nat, pl = nI n ∧ n < 2 ^ 31 := ⟨pl.toNatClampNeg, (zcn c_3), zcl _⟩
        obtain ⟨rfl, hn31⟩ := hn
        have hlR := hW.2 1 (by decide)
        refine lv_aload_n hx hb dX1_road_34 rfl (lv_at hl 0 rfl) ?_
        refine zc_i (zr_V (As := []) (rest := [.int (nI n)]) ⟨hx, hb, hml, hown, hts⟩ (ct_J2_size l g A T _ (S.mu (11 + 1)) _ (hY.ro (show 1 < 3 by decide))) zn_J2_size (lw_V q225 q226 q227 q43 q228) rfl (by decide) (by decide) hK (fun _ h => h) hS hT (zt_recvL hK.1 hT (hY.ro (show 1 < 3 by decide))) rfl hl.1 (Nat.le_of_ble_eq_true rfl) dX1_road_35 ⟨by show _ + 0 ≤ _; omega, by show _ + 0 ≤ _; omega⟩) hS (fun _ h => h) (fun r _ H locs hr1 hT _ _ hS => ?_)
        subst hr1
        refine zm_topi (y := nI ((S.Rd 1).length)) (by first | (simp; done) | exact congrArg nI (List.length_map _)) ?_
        refine zl_ge (tgt := 58) (a := n) (b := (S.Rd 1).length) hx hb (by first | decide | omega) (by first | decide | omega) dX1_road_38 (by decide) (fun c_14 => ?_) (fun c_14 => ?_)
        · refine lv_iconst (v := (-1)) hx hb dX1_road_58 (by decide) ?_
          have hmR := hRl 1 (by decide)
          have hz0 : zin (nI 1) 0 2 = true := by decide
          have hcr : (nI 1).toNatClampNeg = 1 := by decide
          have hcn : (nI n).toNatClampNeg = n := nI_clamp hn31
          have hng : ¬ nI n < 0 := nI_pos hn31
          have hY0 := hY.hid 0 0 0 (Or.inl rfl)
          have e1 : m_road X (nI 1) (nI n) = ((-1), zu X 0 0 0) := by unfold m_road; rw [if_neg (by rw [hz0]; simp [hng]), hcr, if_neg (by rw [← hmR]; exact fun z => z (nI_le (by omega) hn31))]
          exact vx_ret (ze_i hx hb hr hlocks hS dX1_road_59 (by show _ ≤ 1; omega) (by show _ ≤ 6; omega) T (by rw [e1]; exact ⟨⟨rfl, by simp [zu]⟩, hY0⟩) hT)
        · refine lv_aload_n hx hb dX1_road_41 rfl (lv_at hl 0 rfl) ?_
          refine lv_iload_n hx hb dX1_road_42 rfl (lv_at hl 3 rfl) ?_
          refine zc_q (zr_V (As := [.int (nI n)]) (rest := []) ⟨hx, hb, hml, hown, hts⟩ (ct_J2_get l g A T _ (S.mu (11 + 1)) _ (hY.ro (show 1 < 3 by decide)) n (by simpa using (show n < (S.Rd 1).length from by omega))) zn_J2_get (lw_V q234 q235 q236 q43 q237) rfl (by decide) (by decide) hK (fun _ h => h) hS hT (zt_recvL hK.1 hT (hY.ro (show 1 < 3 by decide))) rfl hl.1 (Nat.le_of_ble_eq_true rfl) dX1_road_43 ⟨by show _ + 0 ≤ _; omega, by show _ + 0 ≤ _; omega⟩) hS (fun _ h => h) (fun r _ H locs hg_15 hT _ _ hS => ?_)
          obtain ⟨q_16, hq_17, hm_18, hc_19⟩ : ∃ e, (S.Rd 1)[n]? = some e ∧ e.2.1 < mN X ∧ zCg S _ e := ⟨_, List.getElem?_eq_getElem (by omega), (hW.2 _ (show 1 < 3 by decide)).2 _ (List.getElem_mem _), hY.rd _ (show 1 < 3 by decide) _ (List.getElem_mem _)⟩
          have hg_15r : r = some q_16.1 := by rw [hg_15]; exact Option.some.inj ((List.getElem?_eq_getElem _).symm.trans (by rw [List.getElem?_map, hq_17]; rfl))
          clear hg_15
          subst hg_15r
          refine zm_top (v' := .ref q_16.1) rfl ?_
          refine va_castS hx hb hown (hts _ q248) (hK.1.1 8 _ rfl).2 (zt_recv hK.1 hT hc_19 (r := zCl[8]) rfl) dX1_road_46 ?_
          refine zt_getN hx hb hts in_X9 hown hK.1 hT hc_19 rfl 0 (by decide) (va_Nw.use (A := args) rfl (hK.2.1.1 _ _ _ _ _ _ q899)) (fun _ h => h) rfl dX1_road_49 ?_
          refine zt_getN hx hb hts in_X4 hown hK.1 hT (hY.p hm_18) rfl 0 (by decide) (va_Nw.use (A := args) rfl (hK.2.1.1 _ _ _ _ _ _ q383)) (fun _ h => h) rfl dX1_road_52 ?_
          refine lv_goto (tgt := 59) hx hb dX1_road_55 (by decide) ?_
          have hmR := hRl 1 (by decide)
          have hz0 : zin (nI 1) 0 2 = true := by decide
          have hcr : (nI 1).toNatClampNeg = 1 := by decide
          have hcn : (nI n).toNatClampNeg = n := nI_clamp hn31
          have hng : ¬ nI n < 0 := nI_pos hn31
          have hY0 := hY.hid 0 0 0 (Or.inl rfl)
          have e1 : m_road X (nI 1) (nI n) = (nI q_16.2.1, zu X 0 0 0) := by unfold m_road; rw [if_neg (by rw [hz0]; simp [hng]), hcr, hcn, if_pos (by rw [← hmR]; exact fun z => absurd ((nI_leI (by omega) hn31).mp z) (by omega)), hRe 1 (by decide) _ _ hq_17]
          exact vx_ret (ze_i hx hb hr hlocks hS dX1_road_59 (by show _ ≤ 1; omega) (by show _ ≤ 6; omega) T (by rw [e1]; exact ⟨⟨rfl, by simp [zu]⟩, hY0⟩) hT)
      · refine zc_q (zr_V (As := [.int (nI 2)]) (rest := []) ⟨hx, hb, hml, hown, hts⟩ (ct_J2_get l g A T _ (S.mu 8) _ hY.rds 2 (by simpa using (by decide : 2 < 3))) zn_J2_get (lw_V q234 q235 q236 q43 q237) rfl (by decide) (by decide) hK (fun _ h => h) hS hT (zt_recvL hK.1 hT hY.rds) rfl hl.1 (Nat.le_of_ble_eq_true rfl) dX1_road_26 ⟨by show _ + 0 ≤ _; omega, by show _ + 0 ≤ _; omega⟩) hS (fun _ h => h) (fun r _ H locs hg_20 hT _ _ hS => ?_)
        subst hg_20
        refine zm_top (v' := .ref (S.A (11 + 2))) rfl ?_
        refine va_castS hx hb hown (hts _ q113) (hK.1.1 9 _ rfl).2 (zt_recvL hK.1 hT (hY.ro (show 2 < 3 by decide))) dX1_road_29 ?_
        refine lv_astore_n (lv' := [(3, .ref (S.A (11 + 2))), (0, .ref (S.A 0)), (1, .int (nI 2)), (2, .int pl)]) hx hb dX1_road_32 rfl hl (by decide) rfl (fun ls hl => ?_)
        refine lv_iload_n hx hb dX1_road_33 rfl (lv_at hl 3 rfl) ?_
        obtain ⟨n, hn⟩ : ∃ n : Nat, pl = nI n ∧ n < 2 ^ 31 := ⟨pl.toNatClampNeg, (zcn c_3), zcl _⟩
        obtain ⟨rfl, hn31⟩ := hn
        have hlR := hW.2 2 (by decide)
        refine lv_aload_n hx hb dX1_road_34 rfl (lv_at hl 0 rfl) ?_
        refine zc_i (zr_V (As := []) (rest := [.int (nI n)]) ⟨hx, hb, hml, hown, hts⟩ (ct_J2_size l g A T _ (S.mu (11 + 2)) _ (hY.ro (show 2 < 3 by decide))) zn_J2_size (lw_V q225 q226 q227 q43 q228) rfl (by decide) (by decide) hK (fun _ h => h) hS hT (zt_recvL hK.1 hT (hY.ro (show 2 < 3 by decide))) rfl hl.1 (Nat.le_of_ble_eq_true rfl) dX1_road_35 ⟨by show _ + 0 ≤ _; omega, by show _ + 0 ≤ _; omega⟩) hS (fun _ h => h) (fun r _ H locs hr1 hT _ _ hS => ?_)
        subst hr1
        refine zm_topi (y := nI ((S.Rd 2).length)) (by first | (simp; done) | exact congrArg nI (List.length_map _)) ?_
        refine zl_ge (tgt := 58) (a := n) (b := (S.Rd 2).length) hx hb (by first | decide | omega) (by first | decide | omega) dX1_road_38 (by decide) (fun c_21 => ?_) (fun c_21 => ?_)
        · refine lv_iconst (v := (-1)) hx hb dX1_road_58 (by decide) ?_
          have hmR := hRl 2 (by decide)
          have hz0 : zin (nI 2) 0 2 = true := by decide
          have hcr : (nI 2).toNatClampNeg = 2 := by decide
          have hcn : (nI n).toNatClampNeg = n := nI_clamp hn31
          have hng : ¬ nI n < 0 := nI_pos hn31
          have hY0 := hY.hid 0 0 0 (Or.inl rfl)
          have e1 : m_road X (nI 2) (nI n) = ((-1), zu X 0 0 0) := by unfold m_road; rw [if_neg (by rw [hz0]; simp [hng]), hcr, if_neg (by rw [← hmR]; exact fun z => z (nI_le (by omega) hn31))]
          exact vx_ret (ze_i hx hb hr hlocks hS dX1_road_59 (by show _ ≤ 1; omega) (by show _ ≤ 6; omega) T (by rw [e1]; exact ⟨⟨rfl, by simp [zu]⟩, hY0⟩) hT)
        · refine lv_aload_n hx hb dX1_road_41 rfl (lv_at hl 0 rfl) ?_
          refine lv_iload_n hx hb dX1_road_42 rfl (lv_at hl 3 rfl) ?_
          refine zc_q (zr_V (As := [.int (nI n)]) (rest := []) ⟨hx, hb, hml, hown, hts⟩ (ct_J2_get l g A T _ (S.mu (11 + 2)) _ (hY.ro (show 2 < 3 by decide)) n (by simpa using (show n < (S.Rd 2).length from by omega))) zn_J2_get (lw_V q234 q235 q236 q43 q237) rfl (by decide) (by decide) hK (fun _ h => h) hS hT (zt_recvL hK.1 hT (hY.ro (show 2 < 3 by decide))) rfl hl.1 (Nat.le_of_ble_eq_true rfl) dX1_road_43 ⟨by show _ + 0 ≤ _; omega, by show _ + 0 ≤ _; omega⟩) hS (fun _ h => h) (fun r _ H locs hg_22 hT _ _ hS => ?_)
          obtain ⟨q_23, hq_24, hm_25, hc_26⟩ : ∃ e, (S.Rd 2)[n]? = some e ∧ e.2.1 < mN X ∧ zCg S _ e := ⟨_, List.getElem?_eq_getElem (by omega), (hW.2 _ (show 2 < 3 by decide)).2 _ (List.getElem_mem _), hY.rd _ (show 2 < 3 by decide) _ (List.getElem_mem _)⟩
          have hg_22r : r = some q_23.1 := by rw [hg_22]; exact Option.some.inj ((List.getElem?_eq_getElem _).symm.trans (by rw [List.getElem?_map, hq_24]; rfl))
          clear hg_22
          subst hg_22r
          refine zm_top (v' := .ref q_23.1) rfl ?_
          refine va_castS hx hb hown (hts _ q248) (hK.1.1 8 _ rfl).2 (zt_recv hK.1 hT hc_26 (r := zCl[8]) rfl) dX1_road_46 ?_
          refine zt_getN hx hb hts in_X9 hown hK.1 hT hc_26 rfl 0 (by decide) (va_Nw.use (A := args) rfl (hK.2.1.1 _ _ _ _ _ _ q899)) (fun _ h => h) rfl dX1_road_49 ?_
          refine zt_getN hx hb hts in_X4 hown hK.1 hT (hY.p hm_25) rfl 0 (by decide) (va_Nw.use (A := args) rfl (hK.2.1.1 _ _ _ _ _ _ q383)) (fun _ h => h) rfl dX1_road_52 ?_
          refine lv_goto (tgt := 59) hx hb dX1_road_55 (by decide) ?_
          have hmR := hRl 2 (by decide)
          have hz0 : zin (nI 2) 0 2 = true := by decide
          have hcr : (nI 2).toNatClampNeg = 2 := by decide
          have hcn : (nI n).toNatClampNeg = n := nI_clamp hn31
          have hng : ¬ nI n < 0 := nI_pos hn31
          have hY0 := hY.hid 0 0 0 (Or.inl rfl)
          have e1 : m_road X (nI 2) (nI n) = (nI q_23.2.1, zu X 0 0 0) := by unfold m_road; rw [if_neg (by rw [hz0]; simp [hng]), hcr, hcn, if_pos (by rw [← hmR]; exact fun z => absurd ((nI_leI (by omega) hn31).mp z) (by omega)), hRe 2 (by decide) _ _ hq_24]
          exact vx_ret (ze_i hx hb hr hlocks hS dX1_road_59 (by show _ ≤ 1; omega) (by show _ ≤ 6; omega) T (by rw [e1]; exact ⟨⟨rfl, by simp [zu]⟩, hY0⟩) hT)
