theorem zn_X1_comes : zN yX1_comes 2 := by decide +kernel
set_option maxHeartbeats 4000000 in
theorem ct_X1_comes (l : Launch) (hl0 : l.stackTraces = false) (g : zG) (A : Nat → Prop) (S : zS) (X : zX) (T : zT) (hY : zSy S g X T) (hI : MH X) (hW : zWo S X) (hWl : S.Wt.length = mW X) (hws : ∀ i, i < mN X → S.Wt.any (fun e => decide (e.2.1 = i)) = mWs X (nI i)) (hht : ∀ t, S.Wt.any (fun e => decide (e.2.2 = t)) = zany (fun k => decide (X 28 (mWt X k) = t)) (mW X)) (x tm : Int32) : vx_Met l yX1_comes (ws_ yX1_comes cX1_comes 4 (some .int)) (zR 9 6 190) (zP [.ref (S.A 0), .int x, .int tm] g A (zTH g A T)) (va_Qi (fun rz_ (u : zS × zT) => (rz_ = (m_comes X x tm).1 ∧ (m_comes X x tm).2 0 0 = 0) ∧ zSy u.1 g (m_comes X x tm).2 u.2 ∧ ∃ q, u.1 = S.wA (q, x.toNatClampNeg, tm)) (fun u t => zTH g A u.2 t.heap) A) (zXC (fun E => (E = xIO ∧ (m_comes X x tm).2 0 0 = 1) ∨ (E = xIA ∧ (m_comes X x tm).2 0 0 = 2) ∨ (E = xIS ∧ (m_comes X x tm).2 0 0 = 3)) g A T) 6 190 A := by
  refine zb_xmet (by decide) (Nat.le_of_ble_eq_true rfl) ?_
  intro p e s m args below meth c ls hx hb hr hml hown hts hlocks hnm hK hT ha_ hl hout
  have hown : s.vm.findClass RX1 = some m.cls := hown
  have hS : va_S A s.heap s.heap [] := va_S.rf
  have hl : lv_has ls 4 [(0, .ref (S.A 0)), (1, .int x), (2, .int tm)] := hl
  have hlen := hW.1.1
  refine lv_aload_n hx hb dX1_comes_0 rfl (lv_at hl 0 rfl) ?_
  refine lv_iload_n hx hb dX1_comes_1 rfl (lv_at hl 1 rfl) ?_
  refine lv_iconst (v := 0) hx hb dX1_comes_2 (by decide) ?_
  refine zxc_q (zxr_V (As := [.int x, .int 0]) (rest := []) ⟨hx, hb, hml, hown, hts⟩ (ct_X1_needKind l hl0 g A S X _ hY hI x 0) zn_X1_needKind (lw_V q642 q644 qs9 q39 q645) rfl (by decide) (by decide) hK (fun _ h => h) hS hT (zt_recv hK.1 hT hY.w rfl) rfl hl.1 (Nat.le_of_ble_eq_true rfl) dX1_comes_3 ⟨by show _ + 2 ≤ _; omega, by show _ + 12 ≤ _; omega⟩) hS hout hlocks (fun E hE => by rcases hE with ⟨rfl, h0⟩ | ⟨rfl, h0, h1⟩; exact Or.inl ⟨rfl, by unfold m_comes; rw [if_pos (by rw [mKc_1 _ h0]; decide), mKc_1 _ h0]; exact zu_s X 0 0 1⟩; exact Or.inr (Or.inl ⟨rfl, by unfold m_comes; rw [if_pos (by rw [mKc_2 h0 h1]; decide), mKc_2 h0 h1]; exact zu_s X 0 0 2⟩)) (by show _ + 2 ≤ 6; omega) (by show _ + 12 ≤ 190; omega) (fun r _ H locs hr_1 hT _ _ hS => ?_)
  obtain ⟨rfl, hm_2, hk_3⟩ := hr_1
  obtain ⟨hq_4, hq_5⟩ := mIs_p hI hm_2
  have hkc : mKc X x 0 = 0 := mKc_0 hm_2 hk_3
  refine zm_top (v' := .ref (S.pa x.toNatClampNeg)) rfl ?_
  refine lv_astore_n (lv' := [(3, .ref (S.pa x.toNatClampNeg)), (0, .ref (S.A 0)), (1, .int x), (2, .int tm)]) hx hb dX1_comes_6 rfl hl (by decide) rfl (fun ls hl => ?_)
  refine lv_iload_n hx hb dX1_comes_7 rfl (lv_at hl 3 rfl) ?_
  refine lv_iconst (v := 0) hx hb dX1_comes_8 (by decide) ?_
  refine lv_bipush (v := 99) hx hb dX1_comes_9 (by decide) ?_
  refine zc_i (zr_S (As := [.int tm, .int 0, .int 99]) (rest := []) ⟨hx, hb, hml, hown, hts⟩ (ct_X1_in l g A (zTH g A _) tm 0 99) zn_X1_in (lw_S q262 q263 q39 q264) (by decide) (by decide) hK (fun _ h => h) hS hT rfl hl.1 (Nat.le_of_ble_eq_true rfl) dX1_comes_11 ⟨by show _ + 0 ≤ _; omega, by show _ + 0 ≤ _; omega⟩) hS (fun _ h => h) (fun r _ H locs hr1 hT _ _ hS => ?_)
  subst hr1
  refine zxc_v (zxr_S (As := [.int (zb (zin tm 0 99))]) (rest := []) ⟨hx, hb, hml, hown, hts⟩ (ct_X1_need l hl0 g A _ (zin tm 0 99)) zn_X1_need (lw_S q265 q266 q39 q267) (by decide) (by decide) hK (fun _ h => h) hS hT rfl hl.1 (Nat.le_of_ble_eq_true rfl) dX1_comes_14 ⟨by show _ + 1 ≤ _; omega, by show _ + 6 ≤ _; omega⟩) hS hout hlocks (fun E hE => by obtain ⟨rfl, h0⟩ := hE; exact Or.inr (Or.inl ⟨rfl, by unfold m_comes; first | exact absurd h0 (by decide) | (simp [zu, h0, hkc]; done) | (fail)⟩)) (by show _ + 1 ≤ 6; omega) (by show _ + 6 ≤ 190; omega) (fun _ H locs hx_6 hT _ _ hS => ?_)
  have hxe : x = nI x.toNatClampNeg := (mIs_p hI hm_2).1
  refine lv_aload_n hx hb dX1_comes_17 rfl (lv_at hl 1 rfl) ?_
  refine zt_get hx hb hts in_X1 hown hK.1 hT hY.w rfl 5 (by decide) (hts _ q182) (fun _ h => h) rfl dX1_comes_18 ?_
  refine zc_i (zr_V (As := []) (rest := []) ⟨hx, hb, hml, hown, hts⟩ (ct_J2_size l g A T _ (S.mu 7) _ hY.wl) zn_J2_size (lw_V q225 q226 q227 q43 q228) rfl (by decide) (by decide) hK (fun _ h => h) hS hT (zt_recvL hK.1 hT hY.wl) rfl hl.1 (Nat.le_of_ble_eq_true rfl) dX1_comes_21 ⟨by show _ + 0 ≤ _; omega, by show _ + 0 ≤ _; omega⟩) hS (fun _ h => h) (fun r _ H locs hr1 hT _ _ hS => ?_)
  subst hr1
  refine zm_topi (y := nI (S.Wt.length)) (by first | (simp; done) | exact congrArg nI (List.length_map _)) ?_
  refine lv_bipush (v := 8) hx hb dX1_comes_24 (by decide) ?_
  refine zl_ge (tgt := 63) (a := S.Wt.length) (b := 8) hx hb (by first | decide | omega) (by first | decide | omega) dX1_comes_26 (by decide) (fun c_7 => ?_) (fun c_7 => ?_)
  · refine lv_iconst (v := 0) hx hb dX1_comes_63 (by decide) ?_
    refine zm_topi (y := zb false) rfl ?_
    refine zxc_v (zxr_S (As := [.int (zb false)]) (rest := []) ⟨hx, hb, hml, hown, hts⟩ (ct_X1_needState l hl0 g A _ false) zn_X1_needState (lw_S q338 q339 q39 q340) (by decide) (by decide) hK (fun _ h => h) hS hT rfl hl.1 (Nat.le_of_ble_eq_true rfl) dX1_comes_64 ⟨by show _ + 1 ≤ _; omega, by show _ + 6 ≤ _; omega⟩) hS hout hlocks (fun E hE => by obtain ⟨rfl, h0⟩ := hE; first | exact absurd h0 (by decide) | (have hcm : mCm X x.toNatClampNeg tm = false := (by unfold mCm; rw [← hws _ hq_5, ← hht tm, ← hWl]; simp [c_7]; try omega); exact Or.inr (Or.inr ⟨rfl, by unfold m_comes; rw [if_neg (fun z => z hkc), if_neg (by rw [hx_6]; decide), if_neg (by rw [hcm]; decide)]; exact zu_s X 0 0 3⟩))) (by show _ + 1 ≤ 6; omega) (by show _ + 6 ≤ 190; omega) (fun _ H locs hx_8 hT _ _ hS => ?_)
    cases hx_8
  · refine lv_aload_n hx hb dX1_comes_29 rfl (lv_at hl 1 rfl) ?_
    refine lv_iload_n hx hb dX1_comes_30 rfl (lv_at hl 3 rfl) ?_
    refine zc_i (zr_V (As := [.int tm]) (rest := []) ⟨hx, hb, hml, hown, hts⟩ (ct_X1_hasTime l g A S X _ hY hW tm) zn_X1_hasTime (lw_V q889 q891 qs14 q39 q892) rfl (by decide) (by decide) hK (fun _ h => h) hS hT (zt_recv hK.1 hT hY.w rfl) rfl hl.1 (Nat.le_of_ble_eq_true rfl) dX1_comes_31 ⟨by show _ + 0 ≤ _; omega, by show _ + 0 ≤ _; omega⟩) hS (fun _ h => h) (fun r _ H locs hr_9 hT _ _ hS => ?_)
    subst hr_9
    refine zl_ifne (tgt := 63) hx hb dX1_comes_34 (by decide) (fun c_10 => ?_) (fun c_10 => ?_)
    · refine lv_iconst (v := 0) hx hb dX1_comes_63 (by decide) ?_
      refine zm_topi (y := zb false) rfl ?_
      refine zxc_v (zxr_S (As := [.int (zb false)]) (rest := []) ⟨hx, hb, hml, hown, hts⟩ (ct_X1_needState l hl0 g A _ false) zn_X1_needState (lw_S q338 q339 q39 q340) (by decide) (by decide) hK (fun _ h => h) hS hT rfl hl.1 (Nat.le_of_ble_eq_true rfl) dX1_comes_64 ⟨by show _ + 1 ≤ _; omega, by show _ + 6 ≤ _; omega⟩) hS hout hlocks (fun E hE => by obtain ⟨rfl, h0⟩ := hE; first | exact absurd h0 (by decide) | (have hcm : mCm X x.toNatClampNeg tm = false := (by unfold mCm; rw [← hws _ hq_5, ← hht tm, ← hWl]; simp [c_7, c_10]; try omega); exact Or.inr (Or.inr ⟨rfl, by unfold m_comes; rw [if_neg (fun z => z hkc), if_neg (by rw [hx_6]; decide), if_neg (by rw [hcm]; decide)]; exact zu_s X 0 0 3⟩))) (by show _ + 1 ≤ 6; omega) (by show _ + 6 ≤ 190; omega) (fun _ H locs hx_11 hT _ _ hS => ?_)
      cases hx_11
    · refine lv_aload_n hx hb dX1_comes_37 rfl (lv_at hl 1 rfl) ?_
      refine lv_aload_n hx hb dX1_comes_38 rfl (lv_at hl 0 rfl) ?_
      refine zc_i (zr_V (As := [.ref (S.pa x.toNatClampNeg)]) (rest := []) ⟨hx, hb, hml, hown, hts⟩ (ct_X1_waits l g A S X _ hY hW x.toNatClampNeg hq_5) zn_X1_waits (lw_V q631 q633 qs8 q39 q634) rfl (by decide) (by decide) hK (fun _ h => h) hS hT (zt_recv hK.1 hT hY.w rfl) rfl hl.1 (Nat.le_of_ble_eq_true rfl) dX1_comes_39 ⟨by show _ + 0 ≤ _; omega, by show _ + 0 ≤ _; omega⟩) hS (fun _ h => h) (fun r _ H locs hr_12 hT _ _ hS => ?_)
      subst hr_12
      refine zl_ifne (tgt := 63) hx hb dX1_comes_42 (by decide) (fun c_13 => ?_) (fun c_13 => ?_)
      · refine lv_iconst (v := 0) hx hb dX1_comes_63 (by decide) ?_
        refine zm_topi (y := zb false) rfl ?_
        refine zxc_v (zxr_S (As := [.int (zb false)]) (rest := []) ⟨hx, hb, hml, hown, hts⟩ (ct_X1_needState l hl0 g A _ false) zn_X1_needState (lw_S q338 q339 q39 q340) (by decide) (by decide) hK (fun _ h => h) hS hT rfl hl.1 (Nat.le_of_ble_eq_true rfl) dX1_comes_64 ⟨by show _ + 1 ≤ _; omega, by show _ + 6 ≤ _; omega⟩) hS hout hlocks (fun E hE => by obtain ⟨rfl, h0⟩ := hE; first | exact absurd h0 (by decide) | (have hcm : mCm X x.toNatClampNeg tm = false := (by unfold mCm; rw [← hws _ hq_5, ← hht tm, ← hWl]; simp [c_7, c_10, c_13]; try omega); exact Or.inr (Or.inr ⟨rfl, by unfold m_comes; rw [if_neg (fun z => z hkc), if_neg (by rw [hx_6]; decide), if_neg (by rw [hcm]; decide)]; exact zu_s X 0 0 3⟩))) (by show _ + 1 ≤ 6; omega) (by show _ + 6 ≤ 190; omega) (fun _ H locs hx_14 hT _ _ hS => ?_)
        cases hx_14
      · refine lv_aload_n hx hb dX1_comes_45 rfl (lv_at hl 0 rfl) ?_
        refine zt_getN hx hb hts in_X4 hown hK.1 hT (hY.p hq_5) rfl 19 (by decide) (va_Nw.use (A := args) rfl (hK.2.1.1 _ _ _ _ _ _ q419)) (fun _ h => h) rfl dX1_comes_46 ?_
        refine lv_if_ne (tgt := 63) hx hb dX1_comes_49 (by decide) (fun c_15 => ?_) (fun c_15 => ?_)
        · refine lv_iconst (v := 0) hx hb dX1_comes_63 (by decide) ?_
          refine zm_topi (y := zb false) rfl ?_
          refine zxc_v (zxr_S (As := [.int (zb false)]) (rest := []) ⟨hx, hb, hml, hown, hts⟩ (ct_X1_needState l hl0 g A _ false) zn_X1_needState (lw_S q338 q339 q39 q340) (by decide) (by decide) hK (fun _ h => h) hS hT rfl hl.1 (Nat.le_of_ble_eq_true rfl) dX1_comes_64 ⟨by show _ + 1 ≤ _; omega, by show _ + 6 ≤ _; omega⟩) hS hout hlocks (fun E hE => by obtain ⟨rfl, h0⟩ := hE; first | exact absurd h0 (by decide) | (have hcm : mCm X x.toNatClampNeg tm = false := (by unfold mCm; rw [← hws _ hq_5, ← hht tm, ← hWl]; simp [c_7, c_10, c_13, c_15]; try omega); exact Or.inr (Or.inr ⟨rfl, by unfold m_comes; rw [if_neg (fun z => z hkc), if_neg (by rw [hx_6]; decide), if_neg (by rw [hcm]; decide)]; exact zu_s X 0 0 3⟩))) (by show _ + 1 ≤ 6; omega) (by show _ + 6 ≤ 190; omega) (fun _ H locs hx_16 hT _ _ hS => ?_)
          cases hx_16
        · refine lv_aload_n hx hb dX1_comes_52 rfl (lv_at hl 0 rfl) ?_
          refine zt_getN hx hb hts in_X4 hown hK.1 hT (hY.p hq_5) rfl 6 (by decide) (va_Nw.use (A := args) rfl (hK.2.1.1 _ _ _ _ _ _ q395)) (fun _ h => h) rfl dX1_comes_53 ?_
          refine zl_ifne (tgt := 63) hx hb dX1_comes_56 (by decide) (fun c_17 => ?_) (fun c_17 => ?_)
          · refine lv_iconst (v := 0) hx hb dX1_comes_63 (by decide) ?_
            refine zm_topi (y := zb false) rfl ?_
            refine zxc_v (zxr_S (As := [.int (zb false)]) (rest := []) ⟨hx, hb, hml, hown, hts⟩ (ct_X1_needState l hl0 g A _ false) zn_X1_needState (lw_S q338 q339 q39 q340) (by decide) (by decide) hK (fun _ h => h) hS hT rfl hl.1 (Nat.le_of_ble_eq_true rfl) dX1_comes_64 ⟨by show _ + 1 ≤ _; omega, by show _ + 6 ≤ _; omega⟩) hS hout hlocks (fun E hE => by obtain ⟨rfl, h0⟩ := hE; first | exact absurd h0 (by decide) | (have hcm : mCm X x.toNatClampNeg tm = false := (by unfold mCm; rw [← hws _ hq_5, ← hht tm, ← hWl]; simp [c_7, c_10, c_13, c_15, of_decide_eq_true c_17]; try omega); exact Or.inr (Or.inr ⟨rfl, by unfold m_comes; rw [if_neg (fun z => z hkc), if_neg (by rw [hx_6]; decide), if_neg (by rw [hcm]; decide)]; exact zu_s X 0 0 3⟩))) (by show _ + 1 ≤ 6; omega) (by show _ + 6 ≤ 190; omega) (fun _ H locs hx_18 hT _ _ hS => ?_)
            cases hx_18
          · refine lv_iconst (v := 1) hx hb dX1_comes_59 (by decide) ?_
            refine lv_goto (tgt := 64) hx hb dX1_comes_60 (by decide) ?_
            refine zm_topi (y := zb true) rfl ?_
            refine zxc_v (zxr_S (As := [.int (zb true)]) (rest := []) ⟨hx, hb, hml, hown, hts⟩ (ct_X1_needState l hl0 g A _ true) zn_X1_needState (lw_S q338 q339 q39 q340) (by decide) (by decide) hK (fun _ h => h) hS hT rfl hl.1 (Nat.le_of_ble_eq_true rfl) dX1_comes_64 ⟨by show _ + 1 ≤ _; omega, by show _ + 6 ≤ _; omega⟩) hS hout hlocks (fun E hE => by obtain ⟨rfl, h0⟩ := hE; first | exact absurd h0 (by decide) | (have hcm : mCm X x.toNatClampNeg tm = false := (by unfold mCm; rw [← hws _ hq_5, ← hht tm, ← hWl]; simp [c_7, c_10, c_13, c_15, of_decide_eq_false c_17]; try omega); exact Or.inr (Or.inr ⟨rfl, by unfold m_comes; rw [if_neg (fun z => z hkc), if_neg (by rw [hx_6]; decide), if_neg (by rw [hcm]; decide)]; exact zu_s X 0 0 3⟩))) (by show _ + 1 ≤ 6; omega) (by show _ + 6 ≤ 190; omega) (fun _ H locs hx_19 hT _ _ hS => ?_)
            refine lv_aload_n hx hb dX1_comes_67 rfl (lv_at hl 1 rfl) ?_
            refine zt_get hx hb hts in_X1 hown hK.1 hT hY.w rfl 5 (by decide) (hts _ q182) (fun _ h => h) rfl dX1_comes_68 ?_
            refine zt_new hx hb hts in_X9 tyX9 tyX9_ok hown (hts _ q248) (hts _ q893) (hts _ q65) hK.1 hT hS (ci := 8) rfl (fs := [.null, .int 0]) (by decide) (by show _ + 1 ≤ 6; omega) (by show _ + 2 ≤ 190; omega) dX1_comes_71 (fun q H hqn hT hS => ?_)
            refine lv_dup hx hb dX1_comes_74 rfl ?_
            refine lv_aload_n hx hb dX1_comes_75 rfl (lv_at hl 0 rfl) ?_
            refine lv_iload_n hx hb dX1_comes_76 rfl (lv_at hl 3 rfl) ?_
            refine zc_v (zr_I (As := [.ref (S.pa x.toNatClampNeg), .int tm]) (rest := [.ref q, .ref (S.A 7)]) ⟨hx, hb, hml, hown, hts⟩ (ct_X9_init l g A _ q (S.pa x.toNatClampNeg) tm (va_up_self _ _ _)) zn_X9_init q896 q65 q894 q895 rfl (by decide) (by decide) hK (fun _ h => h) hS hT rfl hl.1 (Nat.le_of_ble_eq_true rfl) dX1_comes_77 ⟨by show _ + 0 ≤ _; omega, by show _ + 0 ≤ _; omega⟩) hS (fun _ h => h) (fun _ H locs _ hT _ _ hS => ?_)
            rw [zup_up] at hT
            obtain ⟨T, hT, hY, hnew⟩ : ∃ T1, zTH g A T1 H ∧ zSy S g X T1 ∧ T1 q = some (.inl (zo 8 [.ref (S.pa x.toNatClampNeg), .int tm])) := ⟨_, hT, hY.fresh hqn _, va_up_self _ _ _⟩
            refine zc_i (zr_V (As := [.ref q]) (rest := []) ⟨hx, hb, hml, hown, hts⟩ (ct_J2_add l g A T _ (S.mu 7) _ hY.wl (some q) (by simp; omega) hY.elW (fun v hv => by cases hv; exact Or.inl ⟨8, _, hnew, by omega⟩)) zn_J2_add (lw_V q115 q116 q117 q43 q118) rfl (by decide) (by decide) hK (fun _ h => h) hS hT (zt_recvL hK.1 hT hY.wl) rfl hl.1 (Nat.le_of_ble_eq_true rfl) dX1_comes_80 ⟨by show _ + 1 ≤ _; omega, by show _ + 160 ≤ _; omega⟩) hS (fun _ h => h) (fun r _ H locs hr1 hT _ _ hS => ?_)
            subst hr1
            obtain ⟨T, hT, hY⟩ : ∃ T1, zTH g A T1 H ∧ zSy (S.wA (q, x.toNatClampNeg, tm)) g X T1 := ⟨_, hT, hY.wA (q, x.toNatClampNeg, tm) hnew rfl⟩
            refine lv_pop hx hb dX1_comes_83 rfl ?_
            refine lv_aload_n hx hb dX1_comes_84 rfl (lv_at hl 1 rfl) ?_
            refine zt_get hx hb hts in_X1 hown hK.1 hT hY.w rfl 5 (by decide) (hts _ q182) (fun _ h => h) rfl dX1_comes_85 ?_
            refine zc_i (zr_V (As := []) (rest := []) ⟨hx, hb, hml, hown, hts⟩ (ct_J2_size l g A T _ ((S.wA (q, x.toNatClampNeg, tm)).mu 7) _ hY.wl) zn_J2_size (lw_V q225 q226 q227 q43 q228) rfl (by decide) (by decide) hK (fun _ h => h) hS hT (zt_recvL hK.1 hT hY.wl) rfl hl.1 (Nat.le_of_ble_eq_true rfl) dX1_comes_88 ⟨by show _ + 0 ≤ _; omega, by show _ + 0 ≤ _; omega⟩) hS (fun _ h => h) (fun r _ H locs hr1 hT _ _ hS => ?_)
            subst hr1
            refine zm_topi (y := nI (((S.wA (q, x.toNatClampNeg, tm)).Wt).length)) (by first | (simp; done) | exact congrArg nI (List.length_map _)) ?_
            have hcm : mCm X x.toNatClampNeg tm = true := by unfold mCm; rw [← hws _ hq_5, ← hht tm, ← hWl]; simp [c_7, c_10, c_13, c_15, of_decide_eq_false c_17]
            have e1 : m_comes X x tm = (nI (mW X + 1), zu (zu (zu (zu X 0 0 0) 27 (mW X) x) 28 x.toNatClampNeg tm) 26 0 (nI (mW X + 1))) := by unfold m_comes; rw [if_neg (fun z => z hkc), if_neg (by rw [hx_6]; decide), if_pos hcm]
            refine zm_topi (y := nI (mW X + 1)) (by rw [← hWl]; exact congrArg nI (List.length_append ..)) ?_
            exact vx_ret (ze_i hx hb hr hlocks hS dX1_comes_91 (by show _ ≤ 6; omega) (by show _ ≤ 190; omega) ((S.wA (q, x.toNatClampNeg, tm)), T) (by rw [e1]; exact ⟨⟨rfl, by simp [zu]⟩, hY.hidR (fun k h0 h1 => by show zu (zu (zu (zu X 0 0 0) 27 (mW X) x) 28 _ tm) 26 0 _ k = X k; rw [zu_row_ne _ _ _ (by omega), zu_row_ne _ _ _ (by omega), zu_row_ne _ _ _ (by omega), zu_row_ne _ _ _ h0]), q, rfl⟩) hT)
theorem zn_X1_part : zN yX1_part 3 := by decide +kernel
set_option maxHeartbeats 4000000 in
theorem ct_X1_part (l : Launch) (hl0 : l.stackTraces = false) (g : zG) (A : Nat → Prop) (S : zS) (X : zX) (T : zT) (hY : zSy S g X T) (hI : MH X) (hC : zKo S X) (hO : zTo S X) (hL : zLo S X) (hW : zWo S X) (hz0 : ∀ p, mN X ≤ p → X 6 p = 0 ∧ X 7 p = 0 ∧ X 8 p = 0 ∧ X 9 p = 0 ∧ X 10 p = 0 ∧ X 11 p = 0 ∧ X 12 p = 0 ∧ X 15 p = 0 ∧ X 16 p = 0 ∧ X 17 p = 0 ∧ X 18 p = 0 ∧ X 19 p = 0) (kd a d : Int32) : vx_Met l yX1_part (ws_ yX1_part cX1_part 4 (some .int)) (zR 9 7 200) (zP [.ref (S.A 0), .int kd, .int a, .int d] g A (zTH g A T)) (va_Qi (fun rz_ (u : zS × zT) => (rz_ = (m_part X kd a d).1 ∧ (m_part X kd a d).2 0 0 = 0) ∧ zSy u.1 g (m_part X kd a d).2 u.2 ∧ ∃ q b1 b2 b3, u.1 = S.pA (mN X) q b1 b2 b3) (fun u t => zTH g A u.2 t.heap) A) (zXC (fun E => (E = xIA ∧ (m_part X kd a d).2 0 0 = 1) ∨ (E = xIS ∧ (m_part X kd a d).2 0 0 = 2)) g A T) 7 200 A := by
  refine zb_xmet (by decide) (Nat.le_of_ble_eq_true rfl) ?_
  intro p e s m args below meth c ls hx hb hr hml hown hts hlocks hnm hK hT ha_ hl hout
  have hown : s.vm.findClass RX1 = some m.cls := hown
  have hS : va_S A s.heap s.heap [] := va_S.rf
  have hl : lv_has ls 4 [(0, .ref (S.A 0)), (1, .int kd), (2, .int a), (3, .int d)] := hl
  have hn60 := hI.1.2
  refine lv_iload_n hx hb dX1_part_0 rfl (lv_at hl 1 rfl) ?_
  refine lv_iconst (v := 0) hx hb dX1_part_1 (by decide) ?_
  refine lv_iconst (v := 4) hx hb dX1_part_2 (by decide) ?_
  refine zc_i (zr_S (As := [.int kd, .int 0, .int 4]) (rest := []) ⟨hx, hb, hml, hown, hts⟩ (ct_X1_in l g A (zTH g A _) kd 0 4) zn_X1_in (lw_S q262 q263 q39 q264) (by decide) (by decide) hK (fun _ h => h) hS hT rfl hl.1 (Nat.le_of_ble_eq_true rfl) dX1_part_3 ⟨by show _ + 0 ≤ _; omega, by show _ + 0 ≤ _; omega⟩) hS (fun _ h => h) (fun r _ H locs hr1 hT _ _ hS => ?_)
  subst hr1
  refine zl_ifeq (tgt := 32) hx hb dX1_part_6 (by decide) (fun c_1 => ?_) (fun c_1 => ?_)
  · refine lv_iconst (v := 0) hx hb dX1_part_32 (by decide) ?_
    refine zm_topi (y := zb false) rfl ?_
    refine zxc_v (zxr_S (As := [.int (zb false)]) (rest := []) ⟨hx, hb, hml, hown, hts⟩ (ct_X1_need l hl0 g A _ false) zn_X1_need (lw_S q265 q266 q39 q267) (by decide) (by decide) hK (fun _ h => h) hS hT rfl hl.1 (Nat.le_of_ble_eq_true rfl) dX1_part_33 ⟨by show _ + 1 ≤ _; omega, by show _ + 6 ≤ _; omega⟩) hS hout hlocks (fun E hE => by obtain ⟨rfl, h0⟩ := hE; exact Or.inl ⟨rfl, by unfold m_part; first | exact absurd h0 (by decide) | (simp [zu, c_1]; done)⟩) (by show _ + 1 ≤ 7; omega) (by show _ + 6 ≤ 200; omega) (fun _ H locs hx_2 hT _ _ hS => ?_)
    cases hx_2
  · refine lv_iload_n hx hb dX1_part_9 rfl (lv_at hl 2 rfl) ?_
    refine lv_iconst (v := 0) hx hb dX1_part_10 (by decide) ?_
    refine lv_bipush (v := 9) hx hb dX1_part_11 (by decide) ?_
    refine zc_i (zr_S (As := [.int a, .int 0, .int 9]) (rest := []) ⟨hx, hb, hml, hown, hts⟩ (ct_X1_in l g A (zTH g A _) a 0 9) zn_X1_in (lw_S q262 q263 q39 q264) (by decide) (by decide) hK (fun _ h => h) hS hT rfl hl.1 (Nat.le_of_ble_eq_true rfl) dX1_part_13 ⟨by show _ + 0 ≤ _; omega, by show _ + 0 ≤ _; omega⟩) hS (fun _ h => h) (fun r _ H locs hr1 hT _ _ hS => ?_)
    subst hr1
    refine zl_ifeq (tgt := 32) hx hb dX1_part_16 (by decide) (fun c_3 => ?_) (fun c_3 => ?_)
    · refine lv_iconst (v := 0) hx hb dX1_part_32 (by decide) ?_
      refine zm_topi (y := zb false) rfl ?_
      refine zxc_v (zxr_S (As := [.int (zb false)]) (rest := []) ⟨hx, hb, hml, hown, hts⟩ (ct_X1_need l hl0 g A _ false) zn_X1_need (lw_S q265 q266 q39 q267) (by decide) (by decide) hK (fun _ h => h) hS hT rfl hl.1 (Nat.le_of_ble_eq_true rfl) dX1_part_33 ⟨by show _ + 1 ≤ _; omega, by show _ + 6 ≤ _; omega⟩) hS hout hlocks (fun E hE => by obtain ⟨rfl, h0⟩ := hE; exact Or.inl ⟨rfl, by unfold m_part; first | exact absurd h0 (by decide) | (simp [zu, c_1, c_3]; done)⟩) (by show _ + 1 ≤ 7; omega) (by show _ + 6 ≤ 200; omega) (fun _ H locs hx_4 hT _ _ hS => ?_)
      cases hx_4
    · refine lv_iload_n hx hb dX1_part_19 rfl (lv_at hl 3 rfl) ?_
      refine lv_iconst (v := 0) hx hb dX1_part_20 (by decide) ?_
      refine lv_iconst (v := 3) hx hb dX1_part_21 (by decide) ?_
      refine zc_i (zr_S (As := [.int d, .int 0, .int 3]) (rest := []) ⟨hx, hb, hml, hown, hts⟩ (ct_X1_in l g A (zTH g A _) d 0 3) zn_X1_in (lw_S q262 q263 q39 q264) (by decide) (by decide) hK (fun _ h => h) hS hT rfl hl.1 (Nat.le_of_ble_eq_true rfl) dX1_part_22 ⟨by show _ + 0 ≤ _; omega, by show _ + 0 ≤ _; omega⟩) hS (fun _ h => h) (fun r _ H locs hr1 hT _ _ hS => ?_)
      subst hr1
      refine zl_ifeq (tgt := 32) hx hb dX1_part_25 (by decide) (fun c_5 => ?_) (fun c_5 => ?_)
      · refine lv_iconst (v := 0) hx hb dX1_part_32 (by decide) ?_
        refine zm_topi (y := zb false) rfl ?_
        refine zxc_v (zxr_S (As := [.int (zb false)]) (rest := []) ⟨hx, hb, hml, hown, hts⟩ (ct_X1_need l hl0 g A _ false) zn_X1_need (lw_S q265 q266 q39 q267) (by decide) (by decide) hK (fun _ h => h) hS hT rfl hl.1 (Nat.le_of_ble_eq_true rfl) dX1_part_33 ⟨by show _ + 1 ≤ _; omega, by show _ + 6 ≤ _; omega⟩) hS hout hlocks (fun E hE => by obtain ⟨rfl, h0⟩ := hE; exact Or.inl ⟨rfl, by unfold m_part; first | exact absurd h0 (by decide) | (simp [zu, c_1, c_3, c_5]; done)⟩) (by show _ + 1 ≤ 7; omega) (by show _ + 6 ≤ 200; omega) (fun _ H locs hx_6 hT _ _ hS => ?_)
        cases hx_6
      · refine lv_iconst (v := 1) hx hb dX1_part_28 (by decide) ?_
        refine lv_goto (tgt := 33) hx hb dX1_part_29 (by decide) ?_
        refine zm_topi (y := zb true) rfl ?_
        refine zxc_v (zxr_S (As := [.int (zb true)]) (rest := []) ⟨hx, hb, hml, hown, hts⟩ (ct_X1_need l hl0 g A _ true) zn_X1_need (lw_S q265 q266 q39 q267) (by decide) (by decide) hK (fun _ h => h) hS hT rfl hl.1 (Nat.le_of_ble_eq_true rfl) dX1_part_33 ⟨by show _ + 1 ≤ _; omega, by show _ + 6 ≤ _; omega⟩) hS hout hlocks (fun E hE => by obtain ⟨rfl, h0⟩ := hE; exact Or.inl ⟨rfl, by unfold m_part; first | exact absurd h0 (by decide) | (simp [zu, c_1, c_3, c_5]; done)⟩) (by show _ + 1 ≤ 7; omega) (by show _ + 6 ≤ 200; omega) (fun _ H locs hx_7 hT _ _ hS => ?_)
        refine lv_aload_n hx hb dX1_part_36 rfl (lv_at hl 0 rfl) ?_
        refine zt_get hx hb hts in_X1 hown hK.1 hT hY.w rfl 0 (by decide) (hts _ q177) (fun _ h => h) rfl dX1_part_37 ?_
        refine zc_i (zr_V (As := []) (rest := []) ⟨hx, hb, hml, hown, hts⟩ (ct_X2_size l g A S X _ hY ) zn_X2_size (lw_V q333 q334 q335 q40 q336) rfl (by decide) (by decide) hK (fun _ h => h) hS hT (zt_recv hK.1 hT hY.rk rfl) rfl hl.1 (Nat.le_of_ble_eq_true rfl) dX1_part_40 ⟨by show _ + 0 ≤ _; omega, by show _ + 0 ≤ _; omega⟩) hS (fun _ h => h) (fun r _ H locs hr_8 hT _ _ hS => ?_)
        subst hr_8
        refine lv_bipush (v := 60) hx hb dX1_part_43 (by decide) ?_
        refine zl_ge (tgt := 52) (a := mN X) (b := 60) hx hb (by first | decide | omega) (by first | decide | omega) dX1_part_45 (by decide) (fun c_9 => ?_) (fun c_9 => ?_)
        · refine lv_iconst (v := 0) hx hb dX1_part_52 (by decide) ?_
          refine zm_topi (y := zb false) rfl ?_
          refine zxc_v (zxr_S (As := [.int (zb false)]) (rest := []) ⟨hx, hb, hml, hown, hts⟩ (ct_X1_needState l hl0 g A _ false) zn_X1_needState (lw_S q338 q339 q39 q340) (by decide) (by decide) hK (fun _ h => h) hS hT rfl hl.1 (Nat.le_of_ble_eq_true rfl) dX1_part_53 ⟨by show _ + 1 ≤ _; omega, by show _ + 6 ≤ _; omega⟩) hS hout hlocks (fun E hE => by obtain ⟨rfl, h0⟩ := hE; exact Or.inr ⟨rfl, by unfold m_part; first | exact absurd h0 (by decide) | (rw [if_neg (by rw [c_1, c_3, c_5]; decide), if_pos (by have := hI.1.2; omega)]; exact zu_s X 0 0 2)⟩) (by show _ + 1 ≤ 7; omega) (by show _ + 6 ≤ 200; omega) (fun _ H locs hx_10 hT _ _ hS => ?_)
          cases hx_10
        · refine lv_iconst (v := 1) hx hb dX1_part_48 (by decide) ?_
          refine lv_goto (tgt := 53) hx hb dX1_part_49 (by decide) ?_
          refine zm_topi (y := zb true) rfl ?_
          refine zxc_v (zxr_S (As := [.int (zb true)]) (rest := []) ⟨hx, hb, hml, hown, hts⟩ (ct_X1_needState l hl0 g A _ true) zn_X1_needState (lw_S q338 q339 q39 q340) (by decide) (by decide) hK (fun _ h => h) hS hT rfl hl.1 (Nat.le_of_ble_eq_true rfl) dX1_part_53 ⟨by show _ + 1 ≤ _; omega, by show _ + 6 ≤ _; omega⟩) hS hout hlocks (fun E hE => by obtain ⟨rfl, h0⟩ := hE; exact Or.inr ⟨rfl, by unfold m_part; first | exact absurd h0 (by decide) | (rw [if_neg (by rw [c_1, c_3, c_5]; decide), if_pos (by have := hI.1.2; omega)]; exact zu_s X 0 0 2)⟩) (by show _ + 1 ≤ 7; omega) (by show _ + 6 ≤ 200; omega) (fun _ H locs hx_11 hT _ _ hS => ?_)
          refine lv_aload_n hx hb dX1_part_56 rfl (lv_at hl 0 rfl) ?_
          refine zt_get hx hb hts in_X1 hown hK.1 hT hY.w rfl 0 (by decide) (hts _ q177) (fun _ h => h) rfl dX1_part_57 ?_
          have hn60 := hI.1.2
          refine zt_new hx hb hts in_X4 tyX4 tyX4_ok hown (hts _ q356) (hts _ q357) (hts _ q54) hK.1 hT hS (ci := 3) rfl (fs := [.int 0, .int 0, .int 0, .int 0, .null, .null, .int 0, .int 0, .int 0, .int 0, .int 0, .int 0, .int 0, .int 0, .int 0, .int 0, .int 0, .int 0, .int 0, .int 0]) (by decide) (by show _ + 1 ≤ 7; omega) (by show _ + 20 ≤ 200; omega) dX1_part_60 (fun q H hqn hT hS => ?_)
          refine lv_dup hx hb dX1_part_63 rfl ?_
          have hYq := hY.fresh hqn (.inl (zo 3 [.int 0, .int 0, .int 0, .int 0, .null, .null, .int 0, .int 0, .int 0, .int 0, .int 0, .int 0, .int 0, .int 0, .int 0, .int 0, .int 0, .int 0, .int 0, .int 0]))
          refine lv_aload_n hx hb dX1_part_64 rfl (lv_at hl 0 rfl) ?_
          refine zt_get hx hb hts in_X1 hown hK.1 hT hYq.w rfl 0 (by decide) (hts _ q177) (fun _ h => h) rfl dX1_part_65 ?_
          refine zc_i (zr_V (As := []) (rest := [.ref q, .ref q, .ref (S.A 1)]) ⟨hx, hb, hml, hown, hts⟩ (ct_X2_size l g A S X _ hYq) zn_X2_size (lw_V q333 q334 q335 q40 q336) rfl (by decide) (by decide) hK (fun _ h => h) hS hT (zt_recv hK.1 hT hYq.rk rfl) rfl hl.1 (Nat.le_of_ble_eq_true rfl) dX1_part_68 ⟨by show _ + 0 ≤ _; omega, by show _ + 0 ≤ _; omega⟩) hS (fun _ h => h) (fun r _ H locs hr1 hT _ _ hS => ?_)
          subst hr1
          refine lv_iload_n hx hb dX1_part_71 rfl (lv_at hl 1 rfl) ?_
          refine lv_iload_n hx hb dX1_part_72 rfl (lv_at hl 2 rfl) ?_
          refine lv_iload_n hx hb dX1_part_73 rfl (lv_at hl 3 rfl) ?_
          refine zc_v (zr_I (As := [.int (nI (mN X)), .int kd, .int a, .int d]) (rest := [.ref q, .ref (S.A 1)]) ⟨hx, hb, hml, hown, hts⟩ (ct_X4_init l g A _ q (va_up_self _ _ _) (nI (mN X)) kd a d) zn_X4_init q360 q54 q358 q359 rfl (by decide) (by decide) hK (fun _ h => h) hS hT rfl hl.1 (Nat.le_of_ble_eq_true rfl) dX1_part_74 ⟨by show _ + 3 ≤ _; omega, by show _ + 8 ≤ _; omega⟩) hS (fun _ h => h) (fun u H locs hu hT _ _ hS => ?_)
          obtain ⟨T1, b1, b2, b3⟩ := u
          obtain ⟨⟨g1, g2, g3⟩, ⟨k12, k13, k23⟩, gq, f1, f2, f3, fo⟩ := hu
          dsimp only at g1 g2 g3 k12 k13 k23 gq f1 f2 f3 fo hT
          have nq1 : b1 ≠ q := fun z => by rw [z, va_up_self] at g1; cases g1
          have o1 : T b1 = none := by rw [va_up_ne _ _ nq1] at g1; exact g1
          have nq2 : b2 ≠ q := fun z => by rw [z, va_up_self] at g2; cases g2
          have o2 : T b2 = none := by rw [va_up_ne _ _ nq2] at g2; exact g2
          have nq3 : b3 ≠ q := fun z => by rw [z, va_up_self] at g3; cases g3
          have o3 : T b3 = none := by rw [va_up_ne _ _ nq3] at g3; exact g3
          have hfo : ∀ z, z ≠ q → z ≠ b1 → z ≠ b2 → z ≠ b3 → T1 z = T z := fun z y0 y1 y2 y3 => (fo z y0 y1 y2 y3).trans (va_up_ne _ _ y0)
          have hto : ∀ z x, T z = some x → T1 z = some x := fun z x hx => (hfo z (fun y => by rw [y, hqn] at hx; cases hx) (fun y => by rw [y, o1] at hx; cases hx) (fun y => by rw [y, o2] at hx; cases hx) (fun y => by rw [y, o3] at hx; cases hx)).trans hx
          have hel : ∀ y ∈ (List.range (mN X)).map (fun q => some (S.pa q)), zEl T1 y := fun y hy v hv => (hY.elTh y hy v hv).elim (fun ⟨c2, vs, z1, z2⟩ => Or.inl ⟨c2, vs, hto _ _ z1, z2⟩) (fun ⟨w2, z1⟩ => Or.inr ⟨w2, hto _ _ z1⟩)
          refine zc_q (zr_V (As := [.ref q]) (rest := []) ⟨hx, hb, hml, hown, hts⟩ (ct_X2_add l g A T1 (S.A 1) (S.A 2) q (S.mu 2) _ (hto _ _ hY.rk) (hto _ _ hY.th) (by simp; omega) hel (fun v hv => by cases hv; exact Or.inl ⟨3, _, gq, by omega⟩)) zn_X2_add (lw_V q461 q462 q463 q40 q464) rfl (by decide) (by decide) hK (fun _ h => h) hS hT (zt_recv hK.1 hT (hto _ _ hY.rk) rfl) rfl hl.1 (Nat.le_of_ble_eq_true rfl) dX1_part_77 ⟨by show _ + 1 ≤ _; omega, by show _ + 160 ≤ _; omega⟩) hS (fun _ h => h) (fun r _ H locs hr1 hT _ _ hS => ?_)
          subst hr1
          have hm60 : ¬ mN X = 60 := by omega
          have e1 : m_part X kd a d = (nI (mN X), zu (zu (zu (zu (zu (zu (zu (zu X 0 0 0) 2 (mN X) kd) 3 (mN X) a) 4 (mN X) d) 5 (mN X) (-1)) 13 (mN X) 9000) 14 (mN X) 300) 1 0 (nI (mN X + 1))) := by unfold m_part; rw [if_neg (by rw [c_1, c_3, c_5]; decide), if_neg hm60]
          have hYn : zSy (S.pA (mN X) q b1 b2 b3) g (m_part X kd a d).2 _ := hY.part (Y := (m_part X kd a d).2) hC hO hL hW (by rw [e1]; show (nI (mN X + 1)).toNatClampNeg = _; exact nI_clamp (by omega)) hqn o1 o2 o3 ⟨nq1.symm, nq2.symm, nq3.symm, k12, k13, k23⟩ ?_ f1 f2 f3 hfo ?_ ?_ ?_ ?_ ?_ (fun p hp c => (hI.host hp c).2.1)
          rotate_left
          · rw [gq]; congr 3; show _ = zpF _ _ _; rw [e1]; obtain ⟨z6, z7, z8, z9, z10, z11, z12, z15, z16, z17, z18, z19⟩ := hz0 (mN X) (Nat.le_refl _); unfold zpF; rw [zS.pA_1, zS.pA_3]; simp [zu, z6, z7, z8, z9, z10, z11, z12, z15, z16, z17, z18, z19, zb]
          · intro k h0 h1 h2 p hp; rw [e1]; have hpn : ¬ p = mN X := by omega
            simp [zu, h0, h1, hpn]
          · rw [e1]; funext j; simp [zu]
          · rw [e1]; funext j; simp [zu]
          · rw [e1]; funext j; simp [zu]
          · rw [e1]; simp [zu]
          refine zm_top (v' := .ref q) rfl ?_
          obtain ⟨T, hT, hY⟩ : ∃ T2, zTH g A T2 H ∧ zSy (S.pA (mN X) q b1 b2 b3) g (m_part X kd a d).2 T2 := ⟨_, hT, hYn⟩
          have hpN : mN X < mN (m_part X kd a d).2 := by rw [e1]; show _ < (nI (mN X + 1)).toNatClampNeg; rw [nI_clamp (by omega)]; omega
          have hpq : ((S.pA (mN X) q b1 b2 b3)).pa (mN X) = q := by show va_up (va_up (va_up (va_up _ _ _) _ _) _ _) _ _ (20 + 4 * mN X) = _; rw [va_up_ne _ _ (by omega), va_up_ne _ _ (by omega), va_up_ne _ _ (by omega), va_up_self]
          have hYp := hY.p hpN
          rw [hpq] at hYp
          refine va_castS hx hb hown (hts _ q356) (hK.1.1 3 _ rfl).2 (zt_recv hK.1 hT hYp (r := zCl[3]) rfl) dX1_part_80 ?_
          refine zt_getN hx hb hts in_X4 hown hK.1 hT hYp rfl 0 (by decide) (va_Nw.use (A := args) rfl (hK.2.1.1 _ _ _ _ _ _ q383)) (fun _ h => h) rfl dX1_part_83 ?_
          exact vx_ret (ze_i hx hb hr hlocks hS dX1_part_86 (by show _ ≤ 7; omega) (by show _ ≤ 200; omega) ((S.pA (mN X) q b1 b2 b3), T) ⟨by rw [e1]; exact ⟨rfl, by simp [zu]⟩, hY, q, b1, b2, b3, rfl⟩ hT)
