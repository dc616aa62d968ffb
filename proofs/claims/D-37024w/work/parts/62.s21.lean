theorem zn_X1_recall : zN yX1_recall 1 := by decide +kernel
set_option maxHeartbeats 4000000 in
theorem ct_X1_recall (l : Launch) (hl0 : l.stackTraces = false) (g : zG) (A : Nat → Prop) (S : zS) (X : zX) (T_0 : zT) (hY : zSy S g X T_0) (hI : MH X) (mt : Int32) : vx_Met l yX1_recall (ws_ yX1_recall cX1_recall 5 (some .int)) (zR 7 2 10) (zP [.ref (S.A 0), .int mt] g A (zTH g A T_0)) (va_Qi (fun rz_ (T1 : zT) => (rz_ = (m_recall X mt).1 ∧ (m_recall X mt).2 0 0 = 0) ∧ zSy S g (m_recall X mt).2 T1) (fun T1 t => zTH g A T1 t.heap) A) (zXC (fun E => (E = xIA ∧ (m_recall X mt).2 0 0 = 1)) g A T_0) 2 10 A := by
  refine zb_xmet (by decide) (Nat.le_of_ble_eq_true rfl) ?_
  intro p e s m args below meth c ls hx hb hr hml hown hts hlocks hnm hK hT ha_ hl hout
  have hown : s.vm.findClass RX1 = some m.cls := hown
  have hS : va_S A s.heap s.heap [] := va_S.rf
  have hl : lv_has ls 5 [(0, .ref (S.A 0)), (1, .int mt)] := hl
  have hn60 := hI.1.2
  refine lv_iload_n hx hb dX1_recall_0 rfl (lv_at hl 1 rfl) ?_
  refine lv_iconst (v := 0) hx hb dX1_recall_1 (by decide) ?_
  refine lv_bipush (v := 9) hx hb dX1_recall_2 (by decide) ?_
  refine zc_i (zr_S (As := [.int mt, .int 0, .int 9]) (rest := []) ⟨hx, hb, hml, hown, hts⟩ (ct_X1_in l g A (zTH g A _) mt 0 9) zn_X1_in (lw_S q262 q263 q39 q264) (by decide) (by decide) hK (fun _ h => h) hS hT rfl hl.1 (Nat.le_of_ble_eq_true rfl) dX1_recall_4 ⟨by show _ + 0 ≤ _; omega, by show _ + 0 ≤ _; omega⟩) hS (fun _ h => h) (fun r _ H locs hr1 hT _ _ hS => ?_)
  subst hr1
  refine zxc_v (zxr_S (As := [.int (zb (zin mt 0 9))]) (rest := []) ⟨hx, hb, hml, hown, hts⟩ (ct_X1_need l hl0 g A _ (zin mt 0 9)) zn_X1_need (lw_S q265 q266 q39 q267) (by decide) (by decide) hK (fun _ h => h) hS hT rfl hl.1 (Nat.le_of_ble_eq_true rfl) dX1_recall_7 ⟨by show _ + 1 ≤ _; omega, by show _ + 6 ≤ _; omega⟩) hS hout hlocks (fun E hE => by obtain ⟨rfl, h0⟩ := hE; exact ⟨rfl, by unfold m_recall; first | exact absurd h0 (by decide) | (simp [zu, h0]; done) | (fail)⟩) (by show _ + 1 ≤ 2; omega) (by show _ + 6 ≤ 10; omega) (fun _ H locs hx_1 hT _ _ hS => ?_)
  refine lv_iconst (v := 0) hx hb dX1_recall_10 (by decide) ?_
  refine lv_istore_n (lv' := [(2, .int 0), (0, .ref (S.A 0)), (1, .int mt)]) hx hb dX1_recall_11 rfl hl (by decide) rfl (fun ls hl => ?_)
  refine lv_aload_n hx hb dX1_recall_12 rfl (lv_at hl 1 rfl) ?_
  refine zt_get hx hb hts in_X1 hown hK.1 hT hY.w rfl 0 (by decide) (hts _ q177) (fun _ h => h) rfl dX1_recall_13 ?_
  refine zc_q (zr_V (As := []) (rest := []) ⟨hx, hb, hml, hown, hts⟩ (ct_X2_iterator l g A _ _ _ _ _ hY.rk hY.th) zn_X2_iterator (lw_V q846 q847 q848 q40 q849) rfl (by decide) (by decide) hK (fun _ h => h) hS hT (zt_recv hK.1 hT hY.rk rfl) rfl hl.1 (Nat.le_of_ble_eq_true rfl) dX1_recall_16 ⟨by show _ + 1 ≤ _; omega, by show _ + 4 ≤ _; omega⟩) hS (fun _ h => h) (fun r it H locs hr1 hT _ _ hS => ?_)
  obtain ⟨rfl, hnit⟩ := hr1
  obtain ⟨T, hT, hY, hit⟩ : ∃ T1, zTH g A T1 H ∧ zSy S g X T1 ∧ T1 it = some (.inl (zo 10 [.int (nI 0), .int (-1), .int (S.mu 2), .ref (S.A 2)])) := ⟨_, hT, hY.fresh hnit _, va_up_self _ _ _⟩
  refine zm_top (v' := .ref it) rfl ?_
  refine lv_astore_n (lv' := [(3, .ref it), (2, .int 0), (0, .ref (S.A 0)), (1, .int mt)]) hx hb dX1_recall_19 rfl hl (by decide) rfl (fun ls hl => ?_)
  have L_3 : ∀ (n_2 : Nat) (k : Nat) (lr : Int32) (T : zT), (mN X + 1 - k) < n_2 → (k ≤ mN X) → (T it = some (.inl (zo 10 [.int (nI k), .int lr, .int (S.mu 2), .ref (S.A 2)]))) → (zSy S g (zrc X mt k).2 T) → ∀ (H : Heap) (locs : List Loc) (ls : Array Slot), zTH g A T H → va_S A s.heap H locs → lv_has ls 5 [(3, .ref it), (2, .int (nI ((zrc X mt k).1))), (0, .ref (S.A 0)), (1, .int mt)] → W p l e (zR 7 2 10) s m args below meth c H locs ((0 + 1) + 1) ((0 + 6) + 4) (vx_MQ below (va_Qi (fun rz_ (T1 : zT) => (rz_ = (m_recall X mt).1 ∧ (m_recall X mt).2 0 0 = 0) ∧ zSy S g (m_recall X mt).2 T1) (fun T1 t => zTH g A T1 t.heap) A) (zXC (fun E => (E = xIA ∧ (m_recall X mt).2 0 0 = 1)) g A T_0) args s 2 10 A) (F0 m 20 ls []) := by
    intro n_2
    induction n_2 with
    | zero => intro k lr T hm; exact absurd hm (Nat.not_lt_zero _)
    | succ n_2 ih =>
      intro k lr T hm hk hit hY H locs ls hT hS hl
      have ih_4 := ih
      have hcn := zrc_n X mt k
      obtain ⟨u, eu⟩ : ∃ u, u = zrc X mt k := ⟨_, rfl⟩
      rw [← eu] at hY hcn
      have hIy : MH u.2 := by rw [eu]; exact hI.rc mt k
      have hNy : mN u.2 = mN X := by rw [eu]; exact mN_rc X mt k
      have hr3 : u.2 3 = X 3 := by rw [eu]; exact zrc_cg X mt (by decide) (by decide) k
      have hr5 : u.2 5 = X 5 := by rw [eu]; exact zrc_cg X mt (by decide) (by decide) k
      refine lv_aload_n hx hb dX1_recall_20 rfl (lv_at hl 0 rfl) ?_
      refine zc5_i (zr_F (As := []) (rest := []) (hK.1.1 10 _ rfl).2 ⟨hx, hb, hml, hown, hts⟩ (ct_J16_hasNext l g A _ _ _ _ hY.th it k _ hit (by simp; omega) (by simp; omega)) zn_F_has (lw_F q769 q773 q775 q63 q777) hK.2.1.2.2.2.2.2.2.2.1 (by decide) (by decide) hK (fun _ h => h) hS hT (zt_recv hK.1 hT hit rfl) rfl hl.1 (Nat.le_of_ble_eq_true rfl) dX1_recall_21 ⟨by show _ + 0 ≤ _; omega, by show _ + 0 ≤ _; omega⟩) hS (fun _ h => h) (fun r _ H locs hr1 hT _ _ hS => ?_)
      subst hr1
      refine zm_topi (y := zb (decide (k < mN u.2))) (by simp) ?_
      refine zl_ifeq (tgt := 86) hx hb dX1_recall_26 (by decide) (fun c_5 => ?_) (fun c_5 => ?_)
      · refine lv_iload_n hx hb dX1_recall_86 rfl (lv_at hl 1 rfl) ?_
        have hkl : k = mN X := by have := of_decide_eq_false c_5; omega
        subst hkl
        have e1 : m_recall X mt = (nI (zrc X mt (mN X)).1, zu (zrc X mt (mN X)).2 0 0 0) := by unfold m_recall; rw [if_neg (by rw [hx_1]; decide), zrc_0]
        rw [eu] at hY
        exact vx_ret (ze_i hx hb hr hlocks hS dX1_recall_87 (by show _ ≤ 2; omega) (by show _ ≤ 10; omega) T (by rw [e1]; exact ⟨⟨rfl, zu_s (zrc X mt (mN X)).2 0 0 0⟩, hY.hid 0 0 0 (Or.inl rfl)⟩) hT)
      · refine lv_aload_n hx hb dX1_recall_29 rfl (lv_at hl 0 rfl) ?_
        have hkit := of_decide_eq_true c_5
        refine zc5_q (zr_F (As := []) (rest := []) (hK.1.1 10 _ rfl).2 ⟨hx, hb, hml, hown, hts⟩ (ct_J16_next l g A _ _ _ _ hY.th it k _ hit (by simp; omega)) zn_F_nxt (lw_F q779 q782 q784 q63 q786) hK.2.1.2.2.2.2.2.2.2.2.1 (by decide) (by decide) hK (fun _ h => h) hS hT (zt_recv hK.1 hT hit rfl) rfl hl.1 (Nat.le_of_ble_eq_true rfl) dX1_recall_30 ⟨by show _ + 0 ≤ _; omega, by show _ + 0 ≤ _; omega⟩) hS (fun _ h => h) (fun r _ H locs hg_6 hT _ _ hS => ?_)
        obtain ⟨T, hT, hY, hit⟩ : ∃ T1, zTH g A T1 H ∧ zSy S g u.2 T1 ∧ T1 it = some (.inl (zo 10 [.int (nI (k + 1)), .int (nI k), .int (S.mu 2), .ref (S.A 2)])) := ⟨_, hT, hY.itu hit _, va_up_self _ _ _⟩
        have hkp : k < mN u.2 := hkit
        have hg_6r : r = some (S.pa k) := by rw [hg_6]; simp
        clear hg_6
        subst hg_6r
        refine zm_top (v' := .ref (S.pa k)) rfl ?_
        refine va_castS hx hb hown (hts _ q356) (hK.1.1 3 _ rfl).2 (zt_recv hK.1 hT (hY.p hkp) (r := zCl[3]) rfl) dX1_recall_35 ?_
        refine lv_astore (lv' := [(4, .ref (S.pa k)), (3, .ref it), (2, .int (nI ((zrc X mt k).1))), (0, .ref (S.A 0)), (1, .int mt)]) hx hb dX1_recall_38 hl (by decide) rfl (fun ls hl => ?_)
        refine lv_aload hx hb dX1_recall_40 (lv_at hl 0 rfl) ?_
        refine zt_getN hx hb hts in_X4 hown hK.1 hT (hY.p hkp) rfl 2 (by decide) (va_Nw.use (A := args) rfl (hK.2.1.1 _ _ _ _ _ _ q387)) (fun _ h => h) rfl dX1_recall_42 ?_
        refine lv_iload_n hx hb dX1_recall_45 rfl (lv_at hl 4 rfl) ?_
        refine lv_icmp_ne (tgt := 83) hx hb dX1_recall_46 (by decide) (fun c_7 => ?_) (fun c_7 => ?_)
        · have hcd : X 3 k = u.2 3 k ∧ X 5 k = u.2 5 k := ⟨(congrFun hr3 k).symm, (congrFun hr5 k).symm⟩
          have hst : zrc X mt (k + 1) = u := by show (if X 3 k = mt ∧ ¬ X 5 k = -2 ∧ (zrc X mt k).2 10 k = 0 then _ else _) = _; rw [← eu, hcd.1, hcd.2, if_neg (by simp [c_7])]
          have hY2 : zSy S g (zrc X mt (k + 1)).2 T := by rw [hst]; exact hY
          have hl : lv_has ls 5 [(4, .ref (S.pa k)), (3, .ref it), (2, .int (nI ((zrc X mt (k + 1)).1))), (0, .ref (S.A 0)), (1, .int mt)] := by rw [hst]; rw [← eu] at hl; exact hl
          refine lv_goto (tgt := 20) hx hb dX1_recall_83 (by decide) ?_
          exact ih_4 (k + 1) (nI k) T (by omega) (by omega) hit hY2 _ _ _ hT hS (lv_sub hl [1, 2, 3, 4] rfl)
        · refine lv_aload hx hb dX1_recall_49 (lv_at hl 0 rfl) ?_
          refine zt_getN hx hb hts in_X4 hown hK.1 hT (hY.p hkp) rfl 6 (by decide) (va_Nw.use (A := args) rfl (hK.2.1.1 _ _ _ _ _ _ q395)) (fun _ h => h) rfl dX1_recall_51 ?_
          refine zl_ifne (tgt := 83) hx hb dX1_recall_54 (by decide) (fun c_8 => ?_) (fun c_8 => ?_)
          · have hcd : X 3 k = u.2 3 k ∧ X 5 k = u.2 5 k := ⟨(congrFun hr3 k).symm, (congrFun hr5 k).symm⟩
            have hst : zrc X mt (k + 1) = u := by show (if X 3 k = mt ∧ ¬ X 5 k = -2 ∧ (zrc X mt k).2 10 k = 0 then _ else _) = _; rw [← eu, hcd.1, hcd.2, if_neg (by simp [c_7, of_decide_eq_true c_8])]
            have hY2 : zSy S g (zrc X mt (k + 1)).2 T := by rw [hst]; exact hY
            have hl : lv_has ls 5 [(4, .ref (S.pa k)), (3, .ref it), (2, .int (nI ((zrc X mt (k + 1)).1))), (0, .ref (S.A 0)), (1, .int mt)] := by rw [hst]; rw [← eu] at hl; exact hl
            refine lv_goto (tgt := 20) hx hb dX1_recall_83 (by decide) ?_
            exact ih_4 (k + 1) (nI k) T (by omega) (by omega) hit hY2 _ _ _ hT hS (lv_sub hl [1, 2, 3, 4] rfl)
          · refine lv_aload hx hb dX1_recall_57 (lv_at hl 0 rfl) ?_
            refine zt_getN hx hb hts in_X4 hown hK.1 hT (hY.p hkp) rfl 11 (by decide) (va_Nw.use (A := args) rfl (hK.2.1.1 _ _ _ _ _ _ q403)) (fun _ h => h) rfl dX1_recall_59 ?_
            refine lv_if_ne (tgt := 83) hx hb dX1_recall_62 (by decide) (fun c_9 => ?_) (fun c_9 => ?_)
            · have hcd : X 3 k = u.2 3 k ∧ X 5 k = u.2 5 k := ⟨(congrFun hr3 k).symm, (congrFun hr5 k).symm⟩
              have hst : zrc X mt (k + 1) = u := by show (if X 3 k = mt ∧ ¬ X 5 k = -2 ∧ (zrc X mt k).2 10 k = 0 then _ else _) = _; rw [← eu, hcd.1, hcd.2, if_neg (by simp [c_7, of_decide_eq_false c_8, c_9])]
              have hY2 : zSy S g (zrc X mt (k + 1)).2 T := by rw [hst]; exact hY
              have hl : lv_has ls 5 [(4, .ref (S.pa k)), (3, .ref it), (2, .int (nI ((zrc X mt (k + 1)).1))), (0, .ref (S.A 0)), (1, .int mt)] := by rw [hst]; rw [← eu] at hl; exact hl
              refine lv_goto (tgt := 20) hx hb dX1_recall_83 (by decide) ?_
              exact ih_4 (k + 1) (nI k) T (by omega) (by omega) hit hY2 _ _ _ hT hS (lv_sub hl [1, 2, 3, 4] rfl)
            · refine lv_aload hx hb dX1_recall_65 (lv_at hl 0 rfl) ?_
              refine lv_iconst (v := 1) hx hb dX1_recall_67 (by decide) ?_
              refine zt_putN hx hb hts in_X4 tyX4 tyX4_ok nmX4 hown hK.1 hT hS (hY.p hkp) rfl 11 (by decide) (va_Nw.use (A := args) rfl (hK.2.1.1 _ _ _ _ _ _ q403)) (fun _ h => h) rfl (v := .int 1) (tyX4_ok 11 (by decide)) (zm_nz (Or.inr rfl)) rfl (show 11 < 20 from by decide) dX1_recall_68 (fun H locs hT hS => ?_)
              obtain ⟨T, hT, hY, hit⟩ : ∃ T1, zTH g A T1 H ∧ zSy S g (zu u.2 10 k 1) T1 ∧ T1 it = some (.inl (zo 10 [.int (nI (k + 1)), .int (nI k), .int (S.mu 2), .ref (S.A 2)])) := ⟨_, hT, hY.pw hkp 10 1 rfl (zpF_s S u.2 11 10 k _ (by decide)), (va_up_ne _ _ (hY.ne (c := 20 + 4 * k) (Or.inr (by have := hkp; omega)) hit (by decide))).trans hit⟩
              refine lv_aload hx hb dX1_recall_71 (lv_at hl 0 rfl) ?_
              refine zc_q (zr_V (As := []) (rest := []) ⟨hx, hb, hml, hown, hts⟩ (ct_X4_head l g A S (zu u.2 10 k 1) _ hY (hIy.w 10 k 1 (by decide) (by decide) (by decide)) k hkp) zn_X4_head (lw_V q570 q552 q553 q54 q554) rfl (by decide) (by decide) hK (fun _ h => h) hS hT (zt_recv hK.1 hT (hY.p hkp) rfl) rfl hl.1 (Nat.le_of_ble_eq_true rfl) dX1_recall_73 ⟨by show _ + 0 ≤ _; omega, by show _ + 0 ≤ _; omega⟩) hS (fun _ h => h) (fun r _ H locs hr_10 hT _ _ hS => ?_)
              subst hr_10
              refine zm_top (v' := .ref (S.pa (mHd (zu u.2 10 k 1) k))) rfl ?_
              have hm_11 : mHd (zu u.2 10 k 1) k < mN (zu u.2 10 k 1) := mHd_lt (hIy.w 10 k 1 (by decide) (by decide) (by decide)) hkp
              refine lv_iconst (v := 0) hx hb dX1_recall_76 (by decide) ?_
              refine zt_putN hx hb hts in_X4 tyX4 tyX4_ok nmX4 hown hK.1 hT hS (hY.p hm_11) rfl 18 (by decide) (va_Nw.use (A := args) rfl (hK.2.1.1 _ _ _ _ _ _ q416)) (fun _ h => h) rfl (v := .int 0) (tyX4_ok 18 (by decide)) (zm_nz (Or.inl rfl)) rfl (show 18 < 20 from by decide) dX1_recall_77 (fun H locs hT hS => ?_)
              obtain ⟨T, hT, hY, hit⟩ : ∃ T1, zTH g A T1 H ∧ zSy S g (zu (zu u.2 10 k 1) 11 (mHd (zu u.2 10 k 1) k) 0) T1 ∧ T1 it = some (.inl (zo 10 [.int (nI (k + 1)), .int (nI k), .int (S.mu 2), .ref (S.A 2)])) := ⟨_, hT, hY.pw hm_11 11 0 rfl (zpF_s S (zu u.2 10 k 1) 18 11 (mHd (zu u.2 10 k 1) k) _ (by decide)), (va_up_ne _ _ (hY.ne (c := 20 + 4 * (mHd (zu u.2 10 k 1) k)) (Or.inr (by have := hm_11; omega)) hit (by decide))).trans hit⟩
              refine lv_iinc (v := nI ((zrc X mt k).1 + 1)) (lv' := [(2, .int (nI ((zrc X mt k).1 + 1))), (4, .ref (S.pa k)), (3, .ref it), (0, .ref (S.A 0)), (1, .int mt)]) hx hb dX1_recall_80 hl (k := 2) rfl (nI_1 ((zrc X mt k).1)) (by decide) rfl (fun ls hl => ?_)
              have hcd : X 3 k = u.2 3 k ∧ X 5 k = u.2 5 k := ⟨(congrFun hr3 k).symm, (congrFun hr5 k).symm⟩
              have hst : zrc X mt (k + 1) = (u.1 + 1, zu (zu u.2 10 k 1) 11 (mHd (zu u.2 10 k 1) k) 0) := by show (if X 3 k = mt ∧ ¬ X 5 k = -2 ∧ (zrc X mt k).2 10 k = 0 then _ else _) = _; rw [← eu, hcd.1, hcd.2, if_pos ⟨c_7, of_decide_eq_false c_8, c_9⟩]; rfl
              have hY2 : zSy S g (zrc X mt (k + 1)).2 T := by rw [hst]; exact hY
              have hl : lv_has ls 5 [(2, .int (nI ((zrc X mt (k + 1)).1))), (4, .ref (S.pa k)), (3, .ref it), (0, .ref (S.A 0)), (1, .int mt)] := by rw [hst]; rw [← eu] at hl; exact hl
              refine lv_goto (tgt := 20) hx hb dX1_recall_83 (by decide) ?_
              exact ih_4 (k + 1) (nI k) T (by omega) (by omega) hit hY2 _ _ _ hT hS (lv_sub hl [2, 0, 3, 4] rfl)
  exact L_3 ((mN X + 1 - 0) + 1) 0 (-1) T (Nat.lt_succ_self _) (Nat.zero_le _) hit hY _ _ _ hT hS (lv_sub hl [0, 1, 2, 3] rfl)
/-- the test of run -/
def zF7 (X : zX) (t i : Nat) : Bool := decide (¬ X 18 i < 100) && decide (mHd X i = t)
theorem zn_X1_run : zN yX1_run 3 := by decide +kernel
set_option maxHeartbeats 4000000 in
theorem ct_X1_run (l : Launch) (hl0 : l.stackTraces = false) (g : zG) (A : Nat → Prop) (S : zS) (X : zX) (T_0 : zT) (hY : zSy S g X T_0) (x km se : Int32) (hI : MH X) (hC : zKo S X) (hKk : zKk S X) (hL : zLo S X) (hz12 : ∀ p, X 12 p = 0 ∨ X 12 p = 1) (hnd : ∀ i, i < mN X → (zDn S 5 i).Nodup) (hfl : ∀ t, t < mN X → X 2 t = 0 → ¬ X 11 t = 0 → zin km 1 2000 = true → ∀ p ∈ zDn S 5 t, zfl X km p) (hrn : ∀ t, t < mN X → X 2 t = 0 → ¬ X 11 t = 0 → X 12 (mHd X t) = 0 → zin km 1 2000 = true → zin se 0 3 = true → (mRn t km se (mN X) (zu (zu X 0 0 0) 11 t 0, -1)).1 0 0 = 0 ∧ (zfi (zF7 (zgo S km se 5 t (zu X 11 t 0)) t) (mN X) 0 = none → (mRn t km se (mN X) (zu (zu X 0 0 0) 11 t 0, -1)).2 = -1 ∧ ∀ k, k ≠ 0 → k < 23 → (mRn t km se (mN X) (zu (zu X 0 0 0) 11 t 0, -1)).1 k = zgo S km se 5 t (zu X 11 t 0) k) ∧ ∀ b, zfi (zF7 (zgo S km se 5 t (zu X 11 t 0)) t) (mN X) 0 = some b → (mRn t km se (mN X) (zu (zu X 0 0 0) 11 t 0, -1)).2 = nI b ∧ ∀ k, k ≠ 0 → k < 23 → mHl (mRn t km se (mN X) (zu (zu X 0 0 0) 11 t 0, -1)).1 t (mN X) k = zqa S 5 t (zgo S km se 5 t (zu X 11 t 0)) k) : vx_Met l yX1_run (ws_ yX1_run cX1_run 6 (some .int)) (zR 14 8 190) (zP [.ref (S.A 0), .int x, .int km, .int se] g A (zTH g A T_0)) (va_Qi (fun rz_ (u : zS × zT) => (rz_ = (m_run X x km se).1 ∧ (m_run X x km se).2 0 0 = 0) ∧ zSy u.1 g (m_run X x km se).2 u.2 ∧ ∃ q, u.1 = S.lA (q, x.toNatClampNeg, none, km)) (fun u t => zTH g A u.2 t.heap) A) (zXC (fun E => (E = xIO ∧ (m_run X x km se).2 0 0 = 1) ∨ (E = xIA ∧ (m_run X x km se).2 0 0 = 2) ∨ (E = xIS ∧ (m_run X x km se).2 0 0 = 3)) g A T_0) 8 190 A := by
  refine zb_xmet (by decide) (Nat.le_of_ble_eq_true rfl) ?_
  intro p e s m args below meth c ls hx hb hr hml hown hts hlocks hnm hK hT ha_ hl hout
  have hown : s.vm.findClass RX1 = some m.cls := hown
  have hS : va_S A s.heap s.heap [] := va_S.rf
  have hl : lv_has ls 6 [(0, .ref (S.A 0)), (1, .int x), (2, .int km), (3, .int se)] := hl
  refine lv_aload_n hx hb dX1_run_0 rfl (lv_at hl 0 rfl) ?_
  refine lv_iload_n hx hb dX1_run_1 rfl (lv_at hl 1 rfl) ?_
  refine lv_iconst (v := 0) hx hb dX1_run_2 (by decide) ?_
  refine zxc_q (zxr_V (As := [.int x, .int 0]) (rest := []) ⟨hx, hb, hml, hown, hts⟩ (ct_X1_needKind l hl0 g A S X _ hY hI x 0) zn_X1_needKind (lw_V q642 q644 qs9 q39 q645) rfl (by decide) (by decide) hK (fun _ h => h) hS hT (zt_recv hK.1 hT hY.w rfl) rfl hl.1 (Nat.le_of_ble_eq_true rfl) dX1_run_3 ⟨by show _ + 2 ≤ _; omega, by show _ + 12 ≤ _; omega⟩) hS hout hlocks (fun E hE => by rcases hE with ⟨rfl, h0⟩ | ⟨rfl, h0, h1⟩; exact Or.inl ⟨rfl, by unfold m_run; rw [if_pos (by rw [mKc_1 _ h0]; decide), mKc_1 _ h0]; exact zu_s X 0 0 1⟩; exact Or.inr (Or.inl ⟨rfl, by unfold m_run; rw [if_pos (by rw [mKc_2 h0 h1]; decide), mKc_2 h0 h1]; exact zu_s X 0 0 2⟩)) (by show _ + 2 ≤ 8; omega) (by show _ + 12 ≤ 190; omega) (fun r _ H locs hr_1 hT _ _ hS => ?_)
  obtain ⟨rfl, hm_2, hk_3⟩ := hr_1
  obtain ⟨hq_4, hq_5⟩ := mIs_p hI hm_2
  have hkc : mKc X x 0 = 0 := mKc_0 hm_2 hk_3
  refine zm_top (v' := .ref (S.pa x.toNatClampNeg)) rfl ?_
  refine lv_astore (lv' := [(4, .ref (S.pa x.toNatClampNeg)), (0, .ref (S.A 0)), (1, .int x), (2, .int km), (3, .int se)]) hx hb dX1_run_6 hl (by decide) rfl (fun ls hl => ?_)
  have hp := hq_5
  have hk0 := hk_3
  refine lv_iload_n hx hb dX1_run_8 rfl (lv_at hl 3 rfl) ?_
  refine lv_iconst (v := 1) hx hb dX1_run_9 (by decide) ?_
  refine lv_sipush (v := 2000) hx hb dX1_run_10 (by decide) ?_
  refine zc_i (zr_S (As := [.int km, .int 1, .int 2000]) (rest := []) ⟨hx, hb, hml, hown, hts⟩ (ct_X1_in l g A (zTH g A _) km 1 2000) zn_X1_in (lw_S q262 q263 q39 q264) (by decide) (by decide) hK (fun _ h => h) hS hT rfl hl.1 (Nat.le_of_ble_eq_true rfl) dX1_run_13 ⟨by show _ + 0 ≤ _; omega, by show _ + 0 ≤ _; omega⟩) hS (fun _ h => h) (fun r _ H locs hr1 hT _ _ hS => ?_)
  subst hr1
  refine zl_ifeq (tgt := 32) hx hb dX1_run_16 (by decide) (fun c_6 => ?_) (fun c_6 => ?_)
  · refine lv_iconst (v := 0) hx hb dX1_run_32 (by decide) ?_
    refine zm_topi (y := zb false) rfl ?_
    refine zxc_v (zxr_S (As := [.int (zb false)]) (rest := []) ⟨hx, hb, hml, hown, hts⟩ (ct_X1_need l hl0 g A _ false) zn_X1_need (lw_S q265 q266 q39 q267) (by decide) (by decide) hK (fun _ h => h) hS hT rfl hl.1 (Nat.le_of_ble_eq_true rfl) dX1_run_33 ⟨by show _ + 1 ≤ _; omega, by show _ + 6 ≤ _; omega⟩) hS hout hlocks (fun E hE => by obtain ⟨rfl, h0⟩ := hE; exact Or.inr (Or.inl ⟨rfl, by unfold m_run; first | exact absurd h0 (by decide) | (simp [zu, hkc, c_6]; done)⟩)) (by show _ + 1 ≤ 8; omega) (by show _ + 6 ≤ 190; omega) (fun _ H locs hx_7 hT _ _ hS => ?_)
    cases hx_7
  · refine lv_iload_n hx hb dX1_run_19 rfl (lv_at hl 4 rfl) ?_
    refine lv_iconst (v := 0) hx hb dX1_run_20 (by decide) ?_
    refine lv_iconst (v := 3) hx hb dX1_run_21 (by decide) ?_
    refine zc_i (zr_S (As := [.int se, .int 0, .int 3]) (rest := []) ⟨hx, hb, hml, hown, hts⟩ (ct_X1_in l g A (zTH g A _) se 0 3) zn_X1_in (lw_S q262 q263 q39 q264) (by decide) (by decide) hK (fun _ h => h) hS hT rfl hl.1 (Nat.le_of_ble_eq_true rfl) dX1_run_22 ⟨by show _ + 0 ≤ _; omega, by show _ + 0 ≤ _; omega⟩) hS (fun _ h => h) (fun r _ H locs hr1 hT _ _ hS => ?_)
    subst hr1
    refine zl_ifeq (tgt := 32) hx hb dX1_run_25 (by decide) (fun c_8 => ?_) (fun c_8 => ?_)
    · refine lv_iconst (v := 0) hx hb dX1_run_32 (by decide) ?_
      refine zm_topi (y := zb false) rfl ?_
      refine zxc_v (zxr_S (As := [.int (zb false)]) (rest := []) ⟨hx, hb, hml, hown, hts⟩ (ct_X1_need l hl0 g A _ false) zn_X1_need (lw_S q265 q266 q39 q267) (by decide) (by decide) hK (fun _ h => h) hS hT rfl hl.1 (Nat.le_of_ble_eq_true rfl) dX1_run_33 ⟨by show _ + 1 ≤ _; omega, by show _ + 6 ≤ _; omega⟩) hS hout hlocks (fun E hE => by obtain ⟨rfl, h0⟩ := hE; exact Or.inr (Or.inl ⟨rfl, by unfold m_run; first | exact absurd h0 (by decide) | (simp [zu, hkc, c_6, c_8]; done)⟩)) (by show _ + 1 ≤ 8; omega) (by show _ + 6 ≤ 190; omega) (fun _ H locs hx_9 hT _ _ hS => ?_)
      cases hx_9
    · refine lv_iconst (v := 1) hx hb dX1_run_28 (by decide) ?_
      refine lv_goto (tgt := 33) hx hb dX1_run_29 (by decide) ?_
      refine zm_topi (y := zb true) rfl ?_
      refine zxc_v (zxr_S (As := [.int (zb true)]) (rest := []) ⟨hx, hb, hml, hown, hts⟩ (ct_X1_need l hl0 g A _ true) zn_X1_need (lw_S q265 q266 q39 q267) (by decide) (by decide) hK (fun _ h => h) hS hT rfl hl.1 (Nat.le_of_ble_eq_true rfl) dX1_run_33 ⟨by show _ + 1 ≤ _; omega, by show _ + 6 ≤ _; omega⟩) hS hout hlocks (fun E hE => by obtain ⟨rfl, h0⟩ := hE; exact Or.inr (Or.inl ⟨rfl, by unfold m_run; first | exact absurd h0 (by decide) | (simp [zu, hkc, c_6, c_8]; done)⟩)) (by show _ + 1 ≤ 8; omega) (by show _ + 6 ≤ 190; omega) (fun _ H locs hx_10 hT _ _ hS => ?_)
      refine lv_aload hx hb dX1_run_36 (lv_at hl 0 rfl) ?_
      refine zt_getN hx hb hts in_X4 hown hK.1 hT (hY.p hq_5) rfl 18 (by decide) (va_Nw.use (A := args) rfl (hK.2.1.1 _ _ _ _ _ _ q416)) (fun _ h => h) rfl dX1_run_38 ?_
      refine lv_if_eq (tgt := 56) hx hb dX1_run_41 (by decide) (fun c_11 => ?_) (fun c_11 => ?_)
      · refine lv_iconst (v := 0) hx hb dX1_run_56 (by decide) ?_
        refine zm_topi (y := zb false) rfl ?_
        refine zxc_v (zxr_S (As := [.int (zb false)]) (rest := []) ⟨hx, hb, hml, hown, hts⟩ (ct_X1_needState l hl0 g A _ false) zn_X1_needState (lw_S q338 q339 q39 q340) (by decide) (by decide) hK (fun _ h => h) hS hT rfl hl.1 (Nat.le_of_ble_eq_true rfl) dX1_run_57 ⟨by show _ + 1 ≤ _; omega, by show _ + 6 ≤ _; omega⟩) hS hout hlocks (fun E hE => by obtain ⟨rfl, h0⟩ := hE; first | exact absurd h0 (by decide) | exact Or.inr (Or.inr ⟨rfl, by unfold m_run; simp [zu, hkc, c_6, c_8, c_11]⟩)) (by show _ + 1 ≤ 8; omega) (by show _ + 6 ≤ 190; omega) (fun _ H locs hx_12 hT _ _ hS => ?_)
        cases hx_12
      · refine lv_aload hx hb dX1_run_44 (lv_at hl 0 rfl) ?_
        refine zc_i (zr_V (As := []) (rest := []) ⟨hx, hb, hml, hown, hts⟩ (ct_X4_isBound l g A S X _ hY hI x.toNatClampNeg hq_5 hz12) zn_X4_isBound (lw_V q547 q548 q549 q54 q550) rfl (by decide) (by decide) hK (fun _ h => h) hS hT (zt_recv hK.1 hT (hY.p hq_5) rfl) rfl hl.1 (Nat.le_of_ble_eq_true rfl) dX1_run_46 ⟨by show _ + 0 ≤ _; omega, by show _ + 0 ≤ _; omega⟩) hS (fun _ h => h) (fun r _ H locs hr_13 hT _ _ hS => ?_)
        subst hr_13
        refine lv_if_ne (tgt := 56) hx hb dX1_run_49 (by decide) (fun c_14 => ?_) (fun c_14 => ?_)
        · refine lv_iconst (v := 0) hx hb dX1_run_56 (by decide) ?_
          refine zm_topi (y := zb false) rfl ?_
          refine zxc_v (zxr_S (As := [.int (zb false)]) (rest := []) ⟨hx, hb, hml, hown, hts⟩ (ct_X1_needState l hl0 g A _ false) zn_X1_needState (lw_S q338 q339 q39 q340) (by decide) (by decide) hK (fun _ h => h) hS hT rfl hl.1 (Nat.le_of_ble_eq_true rfl) dX1_run_57 ⟨by show _ + 1 ≤ _; omega, by show _ + 6 ≤ _; omega⟩) hS hout hlocks (fun E hE => by obtain ⟨rfl, h0⟩ := hE; first | exact absurd h0 (by decide) | exact Or.inr (Or.inr ⟨rfl, by unfold m_run; simp [zu, hkc, c_6, c_8, c_11, c_14]⟩)) (by show _ + 1 ≤ 8; omega) (by show _ + 6 ≤ 190; omega) (fun _ H locs hx_15 hT _ _ hS => ?_)
          cases hx_15
        · refine lv_iconst (v := 1) hx hb dX1_run_52 (by decide) ?_
          refine lv_goto (tgt := 57) hx hb dX1_run_53 (by decide) ?_
          refine zm_topi (y := zb true) rfl ?_
          refine zxc_v (zxr_S (As := [.int (zb true)]) (rest := []) ⟨hx, hb, hml, hown, hts⟩ (ct_X1_needState l hl0 g A _ true) zn_X1_needState (lw_S q338 q339 q39 q340) (by decide) (by decide) hK (fun _ h => h) hS hT rfl hl.1 (Nat.le_of_ble_eq_true rfl) dX1_run_57 ⟨by show _ + 1 ≤ _; omega, by show _ + 6 ≤ _; omega⟩) hS hout hlocks (fun E hE => by obtain ⟨rfl, h0⟩ := hE; first | exact absurd h0 (by decide) | exact Or.inr (Or.inr ⟨rfl, by unfold m_run; simp [zu, hkc, c_6, c_8, c_11, c_14]⟩)) (by show _ + 1 ≤ 8; omega) (by show _ + 6 ≤ 190; omega) (fun _ H locs hx_16 hT _ _ hS => ?_)
          refine lv_aload hx hb dX1_run_60 (lv_at hl 0 rfl) ?_
          refine lv_iconst (v := 0) hx hb dX1_run_62 (by decide) ?_
          refine zt_putN hx hb hts in_X4 tyX4 tyX4_ok nmX4 hown hK.1 hT hS (hY.p hq_5) rfl 18 (by decide) (va_Nw.use (A := args) rfl (hK.2.1.1 _ _ _ _ _ _ q416)) (fun _ h => h) rfl (v := .int 0) (tyX4_ok 18 (by decide)) (zm_nz (Or.inl rfl)) rfl (show 18 < 20 from by decide) dX1_run_63 (fun H locs hT hS => ?_)
          obtain ⟨T, hT, hY⟩ : ∃ T1, zTH g A T1 H ∧ zSy S g (zu X 11 x.toNatClampNeg 0) T1 := ⟨_, hT, hY.pw hq_5 11 0 rfl (zpF_s S X 18 11 x.toNatClampNeg _ (by decide))⟩
          refine lv_aload hx hb dX1_run_66 (lv_at hl 0 rfl) ?_
          refine lv_iload_n hx hb dX1_run_68 rfl (lv_at hl 3 rfl) ?_
          refine lv_iload_n hx hb dX1_run_69 rfl (lv_at hl 4 rfl) ?_
          refine zc_i (zr_S (As := [.int se]) (rest := [.int km, .ref (S.pa x.toNatClampNeg)]) ⟨hx, hb, hml, hown, hts⟩ (ct_X1_factor l g A (zTH g A _) se) zn_X1_factor (lw_S q646 q647 q39 q648) (by decide) (by decide) hK (fun _ h => h) hS hT rfl hl.1 (Nat.le_of_ble_eq_true rfl) dX1_run_70 ⟨by show _ + 0 ≤ _; omega, by show _ + 0 ≤ _; omega⟩) hS (fun _ h => h) (fun r _ H locs hr1 hT _ _ hS => ?_)
          subst hr1
          have hzk : zin km 1 2000 = true := by assumption
          have hzs : zin se 0 3 = true := by assumption
          have hrel : ¬ X 11 x.toNatClampNeg = 0 := c_11
          have hb12 : X 12 (mHd X x.toNatClampNeg) = 0 := c_14
          refine zm_topi (y := mFa se) (zfc_m hzs) ?_
          have hI1 : MH (zu X 11 x.toNatClampNeg 0) := hI.w 11 _ 0 (by decide) (by decide) (by decide)
          have hf1 : ∀ p ∈ zDn S 5 x.toNatClampNeg, zfl (zu X 11 x.toNatClampNeg 0) km p := fun p hpd => by have h := hfl _ hp hk0 hrel hzk p hpd; unfold zfl mSt at h ⊢; simpa [zu] using h
          refine zc_v (zr_V (As := [.int km, .int (mFa se)]) (rest := []) ⟨hx, hb, hml, hown, hts⟩ (ct_X4_go l g A S km se 5 (zu X 11 x.toNatClampNeg 0) _ hY hI1 hC hKk x.toNatClampNeg hp (by omega) (hnd _ hp) hf1) zn_X4_go (lw_V q649 q650 q651 q54 q652) rfl (by decide) (by decide) hK (fun _ h => h) hS hT (zt_recv hK.1 hT (hY.p hp) rfl) rfl hl.1 (Nat.le_of_ble_eq_true rfl) dX1_run_73 ⟨by show _ + 0 ≤ _; omega, by show _ + 0 ≤ _; omega⟩) hS (fun _ h => h) (fun T H locs hY hT _ _ hS => ?_)
          have hr1 : (zgo S km se 5 x.toNatClampNeg (zu X 11 x.toNatClampNeg 0)) 1 = X 1 := (congrFun rfl _).trans ((zgo_keep S km se (by decide) 5 _ _).trans (zu_row_ne _ _ _ (by decide)))
          have hr2 : (zgo S km se 5 x.toNatClampNeg (zu X 11 x.toNatClampNeg 0)) 2 = X 2 := (congrFun rfl _).trans ((zgo_keep S km se (by decide) 5 _ _).trans (zu_row_ne _ _ _ (by decide)))
          have hr5 : (zgo S km se 5 x.toNatClampNeg (zu X 11 x.toNatClampNeg 0)) 5 = X 5 := (congrFun rfl _).trans ((zgo_keep S km se (by decide) 5 _ _).trans (zu_row_ne _ _ _ (by decide)))
          obtain ⟨hIy, hCy, hKy, hNy⟩ := zTr hr1 hr2 hr5 hI hC hKk
          have hiy : x.toNatClampNeg < mN (zgo S km se 5 x.toNatClampNeg (zu X 11 x.toNatClampNeg 0)) := by rw [hNy]; exact hp
          refine lv_aload_n hx hb dX1_run_76 rfl (lv_at hl 1 rfl) ?_
          refine zt_get hx hb hts in_X1 hown hK.1 hT hY.w rfl 4 (by decide) (hts _ q181) (fun _ h => h) rfl dX1_run_77 ?_
          refine zt_new hx hb hts in_X6 tyX6 tyX6_ok hown (hts _ q571) (hts _ q572) (hts _ q61) hK.1 hT hS (ci := 5) rfl (fs := [.null, .null, .int 0]) (by decide) (by show _ + 1 ≤ 8; omega) (by show _ + 3 ≤ 190; omega) dX1_run_80 (fun q H hqn hT hS => ?_)
          refine lv_dup hx hb dX1_run_83 rfl ?_
          refine lv_aload hx hb dX1_run_84 (lv_at hl 0 rfl) ?_
          refine lv_null hx hb dX1_run_86 ?_
          refine lv_iload_n hx hb dX1_run_87 rfl (lv_at hl 3 rfl) ?_
          refine zc_v (zr_I (As := [.ref (S.pa x.toNatClampNeg), .null, .int km]) (rest := [.ref q, .ref (S.A 6)]) ⟨hx, hb, hml, hown, hts⟩ (ct_X6_init l g A _ q (S.pa x.toNatClampNeg) none km (va_up_self _ _ _)) zn_X6_init q575 q61 q573 q574 rfl (by decide) (by decide) hK (fun _ h => h) hS hT rfl hl.1 (Nat.le_of_ble_eq_true rfl) dX1_run_88 ⟨by show _ + 0 ≤ _; omega, by show _ + 0 ≤ _; omega⟩) hS (fun _ h => h) (fun _ H locs _ hT _ _ hS => ?_)
          rw [zup_up] at hT
          obtain ⟨T, hT, hY, hnew⟩ : ∃ T1, zTH g A T1 H ∧ zSy S g (zgo S km se 5 x.toNatClampNeg (zu X 11 x.toNatClampNeg 0)) T1 ∧ T1 q = some (.inl (zo 5 [.ref (S.pa x.toNatClampNeg), va_rf (none : Option Nat), .int km])) := ⟨_, hT, hY.fresh hqn _, va_up_self _ _ _⟩
          refine zc_i (zr_V (As := [.ref q]) (rest := []) ⟨hx, hb, hml, hown, hts⟩ (ct_J2_add l g A _ _ (S.mu 6) _ hY.lg (some q) (by rw [List.length_map]; exact Nat.le_succ_of_le hL.1) hY.elL (fun v hv => by cases hv; exact Or.inl ⟨5, _, hnew, by omega⟩)) zn_J2_add (lw_V q115 q116 q117 q43 q118) rfl (by decide) (by decide) hK (fun _ h => h) hS hT (zt_recvL hK.1 hT hY.lg) rfl hl.1 (Nat.le_of_ble_eq_true rfl) dX1_run_91 ⟨by show _ + 1 ≤ _; omega, by show _ + 160 ≤ _; omega⟩) hS (fun _ h => h) (fun r _ H locs hr1 hT _ _ hS => ?_)
          subst hr1
          obtain ⟨T, hT, hY⟩ : ∃ T1, zTH g A T1 H ∧ zSy (S.lA (q, x.toNatClampNeg, none, km)) g (zgo S km se 5 x.toNatClampNeg (zu X 11 x.toNatClampNeg 0)) T1 := ⟨_, hT, hY.lA (q, x.toNatClampNeg, none, km) hnew rfl⟩
          refine lv_pop hx hb dX1_run_94 rfl ?_
          refine lv_aload_n hx hb dX1_run_95 rfl (lv_at hl 1 rfl) ?_
          refine zt_get hx hb hts in_X1 hown hK.1 hT hY.w rfl 0 (by decide) (hts _ q177) (fun _ h => h) rfl dX1_run_96 ?_
          refine zt_new hx hb hts in_X7 tyX7 tyX7_ok hown (hts _ q654) (hts _ q655) (hts _ q62) hK.1 hT hS (ci := 6) rfl (fs := [.null, .null]) (by decide) (by show _ + 1 ≤ 8; omega) (by show _ + 2 ≤ 190; omega) dX1_run_99 (fun q2 H hq2n hT hS => ?_)
          refine lv_dup hx hb dX1_run_102 rfl ?_
          refine lv_aload_n hx hb dX1_run_103 rfl (lv_at hl 1 rfl) ?_
          refine lv_aload hx hb dX1_run_104 (lv_at hl 0 rfl) ?_
          refine zc_v (zr_I (As := [.ref (S.A 0), .ref (S.pa x.toNatClampNeg)]) (rest := [.ref q2, .ref ((S.lA (q, x.toNatClampNeg, none, km)).A 1)]) ⟨hx, hb, hml, hown, hts⟩ (ct_X7_init l g A _ q2 (S.A 0) (S.pa x.toNatClampNeg) (va_up_self _ _ _)) zn_X7_init q658 q62 q656 q657 rfl (by decide) (by decide) hK (fun _ h => h) hS hT rfl hl.1 (Nat.le_of_ble_eq_true rfl) dX1_run_106 ⟨by show _ + 0 ≤ _; omega, by show _ + 0 ≤ _; omega⟩) hS (fun _ h => h) (fun _ H locs _ hT _ _ hS => ?_)
          rw [zup_up] at hT
          obtain ⟨T, hT, hY, hnew⟩ : ∃ T1, zTH g A T1 H ∧ zSy (S.lA (q, x.toNatClampNeg, none, km)) g (zgo S km se 5 x.toNatClampNeg (zu X 11 x.toNatClampNeg 0)) T1 ∧ T1 q2 = some (.inl (zo 6 [.ref (S.pa x.toNatClampNeg), .ref (S.A 0)])) := ⟨_, hT, hY.fresh hq2n _, va_up_self _ _ _⟩
          refine zc_q (zr_V (As := [.ref q2]) (rest := []) ⟨hx, hb, hml, hown, hts⟩ (ct_X2_lowest7 l g A (S.lA (q, x.toNatClampNeg, none, km)) (zgo S km se 5 x.toNatClampNeg (zu X 11 x.toNatClampNeg 0)) _ hY hIy q2 x.toNatClampNeg hiy hnew) zn_X2_lowest7 (lw_V q667 q668 q669 q40 q670) rfl (by decide) (by decide) hK (fun _ h => h) hS hT (zt_recv hK.1 hT hY.rk rfl) rfl hl.1 (Nat.le_of_ble_eq_true rfl) dX1_run_109 ⟨by show _ + 0 ≤ _; omega, by show _ + 0 ≤ _; omega⟩) hS (fun _ h => h) (fun r _ H locs hr1 hT _ _ hS => ?_)
          subst hr1
          obtain ⟨fo, efo⟩ : ∃ fo, fo = zfi (zF7 (zgo S km se 5 x.toNatClampNeg (zu X 11 x.toNatClampNeg 0)) x.toNatClampNeg) (mN (zgo S km se 5 x.toNatClampNeg (zu X 11 x.toNatClampNeg 0))) 0 := ⟨_, rfl⟩
          refine zm_top (v' := va_rf (fo.map S.pa)) (by rw [efo]; rfl) ?_
          have hfl2 : ∀ i, fo = some i → i < mN (zgo S km se 5 x.toNatClampNeg (zu X 11 x.toNatClampNeg 0)) := fun i hi => by rw [efo] at hi; have := (zfi_lt _ _ _ hi).1; omega
          refine zl_castO hx hb hown (hts _ q356) (hK.1.1 3 _ rfl).2 (fun a ha => ?_) dX1_run_112 ?_
          · obtain ⟨i, hi, rfl⟩ := Option.map_eq_some_iff.mp ha
            exact zt_recv hK.1 hT (hY.p (hfl2 i hi)) (r := zCl[3]) rfl
          refine lv_astoreO (lv' := [(5, va_rf (fo.map S.pa)), (4, .ref (S.pa x.toNatClampNeg)), (0, .ref (S.A 0)), (1, .int x), (2, .int km), (3, .int se)]) hx hb dX1_run_115 hl (by decide) rfl (fun ls hl => ?_)
          refine lv_aloadO hx hb dX1_run_117 (lv_at hl 0 rfl) ?_
          rcases fo with _ | b
          · have hl : lv_has ls 6 [(5, .null), (4, .ref (S.pa x.toNatClampNeg)), (0, .ref (S.A 0)), (1, .int x), (2, .int km), (3, .int se)] := hl
            refine zm_top (v' := .null) rfl ?_
            refine lv_ifnonnullN hx hb dX1_run_119 ?_
            refine lv_iconst (v := (-1)) hx hb dX1_run_122 (by decide) ?_
            obtain ⟨m1, m2, m3⟩ := hrn _ hp hk0 hrel hb12 hzk hzs
            rw [show mN (zgo S km se 5 x.toNatClampNeg (zu X 11 x.toNatClampNeg 0)) = mN X from hNy] at efo
            obtain ⟨m4, m5⟩ := m2 efo.symm
            have e1 : m_run X x km se = ((-1), (mRn x.toNatClampNeg km se (mN X) (zu (zu X 0 0 0) 11 x.toNatClampNeg 0, -1)).1) := by unfold m_run; rw [if_neg (fun z => z hkc), if_neg (by rw [hzk, hzs]; decide), if_neg (fun z => z.elim hrel (fun z => z hb12))]; show (Prod.mk (mRn x.toNatClampNeg km se (mN X) (zu (zu X 0 0 0) 11 x.toNatClampNeg 0, -1)).2 (if (mRn x.toNatClampNeg km se (mN X) (zu (zu X 0 0 0) 11 x.toNatClampNeg 0, -1)).2 = -1 then _ else _)) = _; rw [if_pos m4, m4]
            exact vx_ret (ze_i hx hb hr hlocks hS dX1_run_123 (by show _ ≤ 8; omega) (by show _ ≤ 190; omega) ((S.lA (q, x.toNatClampNeg, none, km)), T) (by rw [e1]; exact ⟨⟨rfl, m1⟩, hY.hidR m5, q, rfl⟩) hT)
          · have hl : lv_has ls 6 [(5, .ref (S.pa b)), (4, .ref (S.pa x.toNatClampNeg)), (0, .ref (S.A 0)), (1, .int x), (2, .int km), (3, .int se)] := hl
            refine zm_top (v' := .ref (S.pa b)) rfl ?_
            have hbp : b < mN (zgo S km se 5 x.toNatClampNeg (zu X 11 x.toNatClampNeg 0)) := hfl2 b rfl
            refine lv_ifnonnull (tgt := 124) hx hb dX1_run_119 (by decide) ?_
            refine lv_aload hx hb dX1_run_124 (lv_at hl 1 rfl) ?_
            refine zc_v (zr_V (As := []) (rest := []) ⟨hx, hb, hml, hown, hts⟩ (ct_X4_quarantineAll l g A (S.lA (q, x.toNatClampNeg, none, km)) 5 (zgo S km se 5 x.toNatClampNeg (zu X 11 x.toNatClampNeg 0)) _ hY hIy hCy hKy x.toNatClampNeg hiy (by omega)) zn_X4_quarantineAll (lw_V q729 q730 q731 q54 q732) rfl (by decide) (by decide) hK (fun _ h => h) hS hT (zt_recv hK.1 hT (hY.p hiy) rfl) rfl hl.1 (Nat.le_of_ble_eq_true rfl) dX1_run_126 ⟨by show _ + 0 ≤ _; omega, by show _ + 0 ≤ _; omega⟩) hS (fun _ h => h) (fun T H locs hY hT _ _ hS => ?_)
            have hY : zSy (S.lA (q, x.toNatClampNeg, none, km)) g (zqa S 5 x.toNatClampNeg (zgo S km se 5 x.toNatClampNeg (zu X 11 x.toNatClampNeg 0))) T := hY
            have hbp : b < mN (zqa S 5 x.toNatClampNeg (zgo S km se 5 x.toNatClampNeg (zu X 11 x.toNatClampNeg 0))) := by have e : mN (zqa S 5 x.toNatClampNeg (zgo S km se 5 x.toNatClampNeg (zu X 11 x.toNatClampNeg 0))) = mN (zgo S km se 5 x.toNatClampNeg (zu X 11 x.toNatClampNeg 0)) := (by unfold mN; rw [zqa_keep S (by decide) (by decide)]); rw [e]; exact hbp
            refine lv_aload hx hb dX1_run_129 (lv_at hl 0 rfl) ?_
            refine zt_getN hx hb hts in_X4 hown hK.1 hT (hY.p hbp) rfl 0 (by decide) (va_Nw.use (A := args) rfl (hK.2.1.1 _ _ _ _ _ _ q383)) (fun _ h => h) rfl dX1_run_131 ?_
            obtain ⟨m1, m2, m3⟩ := hrn _ hp hk0 hrel hb12 hzk hzs
            rw [show mN (zgo S km se 5 x.toNatClampNeg (zu X 11 x.toNatClampNeg 0)) = mN X from hNy] at efo
            obtain ⟨m4, m5⟩ := m3 b efo.symm
            have e1 : m_run X x km se = (nI b, mHl (mRn x.toNatClampNeg km se (mN X) (zu (zu X 0 0 0) 11 x.toNatClampNeg 0, -1)).1 x.toNatClampNeg (mN X)) := by unfold m_run; rw [if_neg (fun z => z hkc), if_neg (by rw [hzk, hzs]; decide), if_neg (fun z => z.elim hrel (fun z => z hb12))]; show (Prod.mk (mRn x.toNatClampNeg km se (mN X) (zu (zu X 0 0 0) 11 x.toNatClampNeg 0, -1)).2 (if (mRn x.toNatClampNeg km se (mN X) (zu (zu X 0 0 0) 11 x.toNatClampNeg 0, -1)).2 = -1 then _ else _)) = _; rw [if_neg (by rw [m4]; exact nI_nem1 (by have := hI.1.2; omega)), m4]
            exact vx_ret (ze_i hx hb hr hlocks hS dX1_run_134 (by show _ ≤ 8; omega) (by show _ ≤ 190; omega) ((S.lA (q, x.toNatClampNeg, none, km)), T) (by rw [e1]; exact ⟨⟨rfl, (congrFun (mHl_cg _ _ (by decide) _) 0).trans m1⟩, hY.hidR m5, q, rfl⟩) hT)
