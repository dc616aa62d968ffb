theorem zn_X1_night : zN yX1_night 0 := by decide +kernel
set_option maxHeartbeats 4000000 in
theorem ct_X1_night (l : Launch) (hl0 : l.stackTraces = false) (g : zG) (A : Nat → Prop) (S : zS) (X : zX) (T_0 : zT) (hY : zSy S g X T_0) (hW : zWo S X) (hWl : S.Wt.length = mW X) (hpl : ¬ mW X = 0 → (zsr S true).1 = (m_plans (zu X 0 0 0)).1) (hbf : ¬ mW X = 0 → ∀ k, k < S.Wt.length → ∃ r, r < 3 ∧ (S.gv (zsr S true)).bf k = nI r) (hRl : ∀ r, r < 3 → (S.Rd r).length = mR X r) (hWe : ∀ k e, S.Wt[k]? = some e → X 27 k = nI e.2.1 ∧ e.2.1 < 60) : vx_Met l yX1_night (ws_ yX1_night cX1_night 3 (some .int)) (zR 16 12 1300) (zP [.ref (S.A 0)] g A (zTH g A T_0)) (va_Qi (fun rz_ (u : zS × zT) => (rz_ = (m_night X).1 ∧ (m_night X).2 0 0 = 0) ∧ zSy u.1 g (m_night X).2 u.2 ∧ ∃ q, u.1 = (zNS (S.gv (zsr S true)) S.Wt.length).nw q) (fun u t => zTH g A u.2 t.heap) A) (zXC (fun E => E = xIS ∧ (m_night X).2 0 0 = 1) g A T_0) 12 1300 A := by
  refine zb_xmet (by decide) (Nat.le_of_ble_eq_true rfl) ?_
  intro p e s m args below meth c ls hx hb hr hml hown hts hlocks hnm hK hT ha_ hl hout
  have hown : s.vm.findClass RX1 = some m.cls := hown
  have hS : va_S A s.heap s.heap [] := va_S.rf
  have hl : lv_has ls 3 [(0, .ref (S.A 0))] := hl
  have hlen := hW.1.1
  refine lv_aload_n hx hb dX1_night_0 rfl (lv_at hl 0 rfl) ?_
  refine zt_get hx hb hts in_X1 hown hK.1 hT hY.w rfl 5 (by decide) (hts _ q182) (fun _ h => h) rfl dX1_night_1 ?_
  refine zc_i (zr_V (As := []) (rest := []) ⟨hx, hb, hml, hown, hts⟩ (ct_J2_isEmpty l g A _ _ (S.mu 7) _ hY.wl) zn_J2_isEmpty (lw_V q213 q214 q215 q43 q216) rfl (by decide) (by decide) hK (fun _ h => h) hS hT (zt_recvL hK.1 hT hY.wl) rfl hl.1 (Nat.le_of_ble_eq_true rfl) dX1_night_4 ⟨by show _ + 0 ≤ _; omega, by show _ + 0 ≤ _; omega⟩) hS (fun _ h => h) (fun r _ H locs hr1 hT _ _ hS => ?_)
  subst hr1
  refine zm_topi (y := zb (decide (S.Wt.length = 0))) (by simp) ?_
  refine zl_ifne (tgt := 21) hx hb dX1_night_7 (by decide) (fun c_1 => ?_) (fun c_1 => ?_)
  · refine lv_iconst (v := 0) hx hb dX1_night_21 (by decide) ?_
    refine zm_topi (y := zb false) rfl ?_
    refine zxc_v (zxr_S (As := [.int (zb false)]) (rest := []) ⟨hx, hb, hml, hown, hts⟩ (ct_X1_needState l hl0 g A _ false) zn_X1_needState (lw_S q338 q339 q39 q340) (by decide) (by decide) hK (fun _ h => h) hS hT rfl hl.1 (Nat.le_of_ble_eq_true rfl) dX1_night_22 ⟨by show _ + 1 ≤ _; omega, by show _ + 6 ≤ _; omega⟩) hS hout hlocks (fun E hE => by obtain ⟨rfl, h0⟩ := hE; first | exact absurd h0 (by decide) | exact ⟨rfl, by unfold m_night; rw [if_pos (Or.inl (by rw [← hWl]; exact of_decide_eq_true c_1))]; exact zu_s X 0 0 1⟩) (by show _ + 1 ≤ 12; omega) (by show _ + 6 ≤ 1300; omega) (fun _ H locs hx_2 hT _ _ hS => ?_)
    cases hx_2
  · refine lv_aload_n hx hb dX1_night_10 rfl (lv_at hl 0 rfl) ?_
    refine zc_i (zr_V (As := []) (rest := []) ⟨hx, hb, hml, hown, hts⟩ (ct_X1_isEmpty l g A S X _ hY ) zn_X1_isEmpty (lw_V q914 q916 qs15 q39 q917) rfl (by decide) (by decide) hK (fun _ h => h) hS hT (zt_recv hK.1 hT hY.w rfl) rfl hl.1 (Nat.le_of_ble_eq_true rfl) dX1_night_11 ⟨by show _ + 0 ≤ _; omega, by show _ + 0 ≤ _; omega⟩) hS (fun _ h => h) (fun r _ H locs hr_3 hT _ _ hS => ?_)
    subst hr_3
    refine zl_ifeq (tgt := 21) hx hb dX1_night_14 (by decide) (fun c_4 => ?_) (fun c_4 => ?_)
    · refine lv_iconst (v := 0) hx hb dX1_night_21 (by decide) ?_
      refine zm_topi (y := zb false) rfl ?_
      refine zxc_v (zxr_S (As := [.int (zb false)]) (rest := []) ⟨hx, hb, hml, hown, hts⟩ (ct_X1_needState l hl0 g A _ false) zn_X1_needState (lw_S q338 q339 q39 q340) (by decide) (by decide) hK (fun _ h => h) hS hT rfl hl.1 (Nat.le_of_ble_eq_true rfl) dX1_night_22 ⟨by show _ + 1 ≤ _; omega, by show _ + 6 ≤ _; omega⟩) hS hout hlocks (fun E hE => by obtain ⟨rfl, h0⟩ := hE; first | exact absurd h0 (by decide) | exact ⟨rfl, by unfold m_night; rw [if_pos (Or.inr (by have h := c_4; unfold zmt at h; simp [hRl 0 (by decide), hRl 1 (by decide), hRl 2 (by decide)] at h; omega))]; exact zu_s X 0 0 1⟩) (by show _ + 1 ≤ 12; omega) (by show _ + 6 ≤ 1300; omega) (fun _ H locs hx_5 hT _ _ hS => ?_)
      cases hx_5
    · refine lv_iconst (v := 1) hx hb dX1_night_17 (by decide) ?_
      refine lv_goto (tgt := 22) hx hb dX1_night_18 (by decide) ?_
      refine zm_topi (y := zb true) rfl ?_
      refine zxc_v (zxr_S (As := [.int (zb true)]) (rest := []) ⟨hx, hb, hml, hown, hts⟩ (ct_X1_needState l hl0 g A _ true) zn_X1_needState (lw_S q338 q339 q39 q340) (by decide) (by decide) hK (fun _ h => h) hS hT rfl hl.1 (Nat.le_of_ble_eq_true rfl) dX1_night_22 ⟨by show _ + 1 ≤ _; omega, by show _ + 6 ≤ _; omega⟩) hS hout hlocks (fun E hE => by obtain ⟨rfl, h0⟩ := hE; first | exact absurd h0 (by decide) | exact ⟨rfl, by unfold m_night; rw [if_pos (Or.inr (by have h := c_4; unfold zmt at h; simp [hRl 0 (by decide), hRl 1 (by decide), hRl 2 (by decide)] at h; omega))]; exact zu_s X 0 0 1⟩) (by show _ + 1 ≤ 12; omega) (by show _ + 6 ≤ 1300; omega) (fun _ H locs hx_6 hT _ _ hS => ?_)
      refine lv_aload_n hx hb dX1_night_25 rfl (lv_at hl 0 rfl) ?_
      refine lv_iconst (v := 1) hx hb dX1_night_26 (by decide) ?_
      refine zc_i (zr_V (As := [.int 1]) (rest := []) ⟨hx, hb, hml, hown, hts⟩ (ct_X1_search l g A S X _ hY hW true) zn_X1_search (lw_V q217 q219 qs3 q39 q220) rfl (by decide) (by decide) hK (fun _ h => h) hS hT (zt_recv hK.1 hT hY.w rfl) rfl hl.1 (Nat.le_of_ble_eq_true rfl) dX1_night_27 ⟨by show _ + 0 ≤ _; omega, by show _ + 0 ≤ _; omega⟩) hS (fun _ h => h) (fun r T H locs hr1 hT _ _ hS => ?_)
      obtain ⟨rfl, hY⟩ := hr1
      have hw0 : ¬ mW X = 0 := fun z => (of_decide_eq_false c_1) (by rw [hWl]; exact z)
      obtain ⟨S1, eS1⟩ : ∃ S1, S1 = (S.gv (zsr S true)) := ⟨_, rfl⟩
      rw [← eS1] at hY
      have w1 : S1.Wt = S.Wt := by rw [eS1]; rfl
      have w2 : ∀ k, k < S.Wt.length → ∃ r, r < 3 ∧ S1.bf k = nI r := by rw [eS1]; exact hbf hw0
      have w3 : S1.Rd = S.Rd := by rw [eS1]; rfl
      refine lv_istore_n (lv' := [(1, .int ((zsr S true).1)), (0, .ref (S.A 0))]) hx hb dX1_night_30 rfl hl (by decide) rfl (fun ls hl => ?_)
      refine lv_iconst (v := 0) hx hb dX1_night_31 (by decide) ?_
      refine lv_istore_n (lv' := [(2, .int 0), (1, .int ((zsr S true).1)), (0, .ref (S.A 0))]) hx hb dX1_night_32 rfl hl (by decide) rfl (fun ls hl => ?_)
      have L_8 : ∀ (n_7 : Nat) (k : Nat) (T : zT), (S.Wt.length + 1 - k) < n_7 → (k ≤ S.Wt.length) → (zSy (zNS S1 k) g (zNX S.Wt X k) T) → ∀ (H : Heap) (locs : List Loc) (ls : Array Slot), zTH g A T H → va_S A s.heap H locs → lv_has ls 3 [(2, .int (nI k)), (1, .int ((zsr S true).1)), (0, .ref (S.A 0))] → W p l e (zR 16 12 1300) s m args below meth c H locs (1 + k) (6 + 160 * k) (vx_MQ below (va_Qi (fun rz_ (u : zS × zT) => (rz_ = (m_night X).1 ∧ (m_night X).2 0 0 = 0) ∧ zSy u.1 g (m_night X).2 u.2 ∧ ∃ q, u.1 = (zNS (S.gv (zsr S true)) S.Wt.length).nw q) (fun u t => zTH g A u.2 t.heap) A) (zXC (fun E => E = xIS ∧ (m_night X).2 0 0 = 1) g A T_0) args s 12 1300 A) (F0 m 33 ls []) := by
        intro n_7
        induction n_7 with
        | zero => intro k T hm; exact absurd hm (Nat.not_lt_zero _)
        | succ n_7 ih =>
          intro k T hm hk hY H locs ls hT hS hl
          have ih_9 := ih
          obtain ⟨ka, kw, kb, kk, kt, kl, kr⟩ := zNS_k S1 k
          obtain ⟨S2, eS2⟩ : ∃ S2, S2 = zNS S1 k := ⟨_, rfl⟩
          obtain ⟨Y, eY⟩ : ∃ Y, Y = zNX S.Wt X k := ⟨_, rfl⟩
          rw [← eS2, ← eY] at hY
          rw [← eS2] at kw kb kr ka
          rw [w1] at kw
          have hNy : mN Y = mN X := by rw [eY]; unfold mN; rw [zNX_ne _ _ (by decide)]
          have hkr : ∀ r, r < 3 → (S2.Rd r).length ≤ 100 := fun r hr => by have := kr r; rw [w3] at this; have h4 := (hW.2 r hr).1; have := hW.1.1; omega
          have ha : S2.A = S.A := by rw [ka, eS1]; rfl
          refine lv_iload_n hx hb dX1_night_33 rfl (lv_at hl 0 rfl) ?_
          refine lv_aload_n hx hb dX1_night_34 rfl (lv_at hl 2 rfl) ?_
          refine zt_get hx hb hts in_X1 hown hK.1 hT ((congrArg T (congrFun ha.symm 0)).trans hY.w) rfl 5 (by decide) (hts _ q182) (fun _ h => h) rfl dX1_night_35 ?_
          refine zc_i (zr_V (As := []) (rest := [.int (nI k)]) ⟨hx, hb, hml, hown, hts⟩ (ct_J2_size l g A _ _ _ _ hY.wl) zn_J2_size (lw_V q225 q226 q227 q43 q228) rfl (by decide) (by decide) hK (fun _ h => h) hS hT (zt_recvL hK.1 hT hY.wl) rfl hl.1 (Nat.le_of_ble_eq_true rfl) dX1_night_38 ⟨by show _ + 0 ≤ _; omega, by show _ + 0 ≤ _; omega⟩) hS (fun _ h => h) (fun r _ H locs hr1 hT _ _ hS => ?_)
          subst hr1
          refine zm_topi (y := nI (S.Wt.length)) (by rw [List.length_map, kw]) ?_
          refine zl_ge (tgt := 99) (a := k) (b := S.Wt.length) hx hb (by first | decide | omega) (by first | decide | omega) dX1_night_41 (by decide) (fun c_10 => ?_) (fun c_10 => ?_)
          · have hkl : k = S.Wt.length := by omega
            have hl : lv_has ls 3 [(2, .int (nI k)), (1, .int ((zsr S true).1)), (0, .ref (S2.A 0))] := by rw [ha]; exact hl
            refine lv_aload_n hx hb dX1_night_99 rfl (lv_at hl 2 rfl) ?_
            refine zt_new hx hb hts in_J2 tyJ2 tyJ2_ok hown (hts _ q113) (hts _ q81) (hts _ q43) hK.1 hT hS (ci := 9) rfl (fs := [.int 0, .null, .int 0]) (by decide) (by show _ + 1 ≤ 12; omega) (by show _ + 3 ≤ 1300; omega) dX1_night_100 (fun q H hqn hT hS => ?_)
            refine lv_dup hx hb dX1_night_103 rfl ?_
            refine zc_v (zr_I (As := []) (rest := [.ref q, .ref (S2.A 0)]) ⟨hx, hb, hml, hown, hts⟩ (ct_J2_init l g A _ q (va_up_self _ _ _)) zn_J2_init q84 q43 q114 q83 rfl (by decide) (by decide) hK (fun _ h => h) hS hT rfl hl.1 (Nat.le_of_ble_eq_true rfl) dX1_night_104 ⟨by show _ + 0 ≤ _; omega, by show _ + 0 ≤ _; omega⟩) hS (fun _ h => h) (fun _ H locs _ hT _ _ hS => ?_)
            rw [zup_up] at hT
            have hoff := hY.offn hqn
            obtain ⟨T, hT, hY, hnew⟩ : ∃ T1, zTH g A T1 H ∧ zSy S2 g Y T1 ∧ T1 q = some (.inr (0, [])) := ⟨_, hT, hY.fresh hqn _, va_up_self _ _ _⟩
            refine zt_put hx hb hts in_X1 tyX1 tyX1_ok nmX1 hown hK.1 hT hS hY.w rfl 5 (by decide) (hts _ q182) (fun _ h => h) rfl (v := .ref q) (tyX1_ok 5 (by decide)) rfl rfl (show 5 < 10 from by decide) dX1_night_107 (fun H locs hT hS => ?_)
            obtain ⟨T, hT, hY⟩ : ∃ T1, zTH g A T1 H ∧ zSy (S2.nw q) g Y T1 := ⟨_, hT, hY.nw hoff hnew rfl⟩
            refine lv_iload_n hx hb dX1_night_110 rfl (lv_at hl 1 rfl) ?_
            have hmr : ¬ 0 < mR X 0 + mR X 1 + mR X 2 := by have h := c_4; unfold zmt at h; simp [hRl 0 (by decide), hRl 1 (by decide), hRl 2 (by decide)] at h; omega
            have e1 : m_night X = ((m_plans (zu X 0 0 0)).1, zu (mNg (m_plans (zu X 0 0 0)).2 (mW X)) 26 0 0) := by unfold m_night; rw [if_neg (fun z => z.elim hw0 hmr)]
            have hz27 : (m_plans (zu X 0 0 0)).2 27 = X 27 := (mPs_pr (zu X 0 0 0) _ 27 (by decide) (by decide)).trans (zu_row_ne _ _ _ (by decide))
            have hrow := mNg_row (W := S.Wt) (m_plans_hid X) hz27 hWe (mW X) (by rw [hWl]; exact Nat.le_refl _)
            have h00 : (m_night X).2 0 0 = 0 := by rw [e1]; show zu (mNg (m_plans (zu X 0 0 0)).2 (mW X)) 26 0 0 0 0 = 0; rw [zu_row_ne _ _ _ (by decide), mNg_cg (m_plans (zu X 0 0 0)).2 (k := 0) (by decide) (by decide) (by decide)]; rw [show (m_plans (zu X 0 0 0)).2 0 = zu X 0 0 0 0 from mPs_pr _ _ 0 (by decide) (by decide)]; exact zu_s X 0 0 0
            have hYk : Y = zNX S.Wt X (mW X) := by rw [eY, hkl, hWl]
            exact vx_ret (ze_i hx hb hr hlocks hS dX1_night_111 (by show _ ≤ 12; omega) (by show _ ≤ 1300; omega) (S2.nw q, T) ⟨⟨by rw [e1]; exact hpl hw0, h00⟩, by rw [e1]; exact hY.hidR (fun k h0 h1 => by show zu (mNg (m_plans (zu X 0 0 0)).2 (mW X)) 26 0 0 k = Y k; rw [zu_row_ne _ _ _ (by omega), hYk]; exact hrow k h0 h1), q, by rw [eS2, eS1, hkl]⟩ hT)
          · refine lv_aload_n hx hb dX1_night_44 rfl (lv_at hl 2 rfl) ?_
            refine zt_get hx hb hts in_X1 hown hK.1 hT ((congrArg T (congrFun ha.symm 0)).trans hY.w) rfl 6 (by decide) (hts _ q183) (fun _ h => h) rfl dX1_night_45 ?_
            refine lv_aload_n hx hb dX1_night_48 rfl (lv_at hl 2 rfl) ?_
            refine zt_get hx hb hts in_X1 hown hK.1 hT ((congrArg T (congrFun ha.symm 0)).trans hY.w) rfl 8 (by decide) (hts _ q185) (fun _ h => h) rfl dX1_night_49 ?_
            refine lv_iload_n hx hb dX1_night_52 rfl (lv_at hl 0 rfl) ?_
            refine zt_ild (k := k) hx hb hK.1 hT hY.a10 (by omega) (by omega) dX1_night_53 ?_
            obtain ⟨r, hr3, hbr⟩ := w2 k (by omega)
            rw [← kb] at hbr
            refine zm_topi (y := nI r) hbr ?_
            obtain ⟨ez, he⟩ : ∃ ez, S.Wt[k]? = some ez := ⟨_, List.getElem?_eq_getElem (by omega)⟩
            have hem := List.mem_of_getElem? he
            have hep : ez.2.1 < mN Y := by rw [hNy]; exact hW.1.2 ez hem
            have he2 : ez ∈ S2.Wt := by rw [kw]; exact hem
            have hcl : (S1.bf k).toNatClampNeg = r := by rw [← kb, hbr]; exact nI_clamp (by omega)
            have hs1 : zNS S1 (k + 1) = S2.rS r (S2.Rd r ++ [ez]) := by rw [eS2]; exact zNS_s (by rw [w1]; exact he) hcl
            have hx1 : zNX S.Wt X (k + 1) = zu Y 12 ez.2.1 1 := by rw [eY]; exact zNX_s he
            rcases (show r = 0 ∨ r = 1 ∨ r = 2 by omega) with rfl | rfl | rfl
            · refine zc_q (zr_V (As := [.int (nI 0)]) (rest := []) ⟨hx, hb, hml, hown, hts⟩ (ct_J2_get l g A _ _ (S2.mu 8) _ hY.rds 0 (by simpa using (by decide : 0 < 3))) zn_J2_get (lw_V q234 q235 q236 q43 q237) rfl (by decide) (by decide) hK (fun _ h => h) hS hT (zt_recvL hK.1 hT hY.rds) rfl hl.1 (Nat.le_of_ble_eq_true rfl) dX1_night_54 ⟨by show _ + 0 ≤ _; omega, by show _ + 0 ≤ _; omega⟩) hS (fun _ h => h) (fun r _ H locs hg_11 hT _ _ hS => ?_)
              subst hg_11
              refine zm_top (v' := .ref (S2.A (11 + 0))) rfl ?_
              refine va_castS hx hb hown (hts _ q113) (hK.1.1 9 _ rfl).2 (zt_recvL hK.1 hT (hY.ro (show 0 < 3 by decide))) dX1_night_57 ?_
              refine lv_aload_n hx hb dX1_night_60 rfl (lv_at hl 2 rfl) ?_
              refine zt_get hx hb hts in_X1 hown hK.1 hT ((congrArg T (congrFun ha.symm 0)).trans hY.w) rfl 5 (by decide) (hts _ q182) (fun _ h => h) rfl dX1_night_61 ?_
              refine lv_iload_n hx hb dX1_night_64 rfl (lv_at hl 0 rfl) ?_
              refine zc_q (zr_V (As := [.int (nI k)]) (rest := [.ref (S2.A (11 + 0))]) ⟨hx, hb, hml, hown, hts⟩ (ct_J2_get l g A _ _ (S2.mu 7) _ hY.wl k (by simpa using (show k < (S2.Wt).length from by rw [kw]; omega))) zn_J2_get (lw_V q234 q235 q236 q43 q237) rfl (by decide) (by decide) hK (fun _ h => h) hS hT (zt_recvL hK.1 hT hY.wl) rfl hl.1 (Nat.le_of_ble_eq_true rfl) dX1_night_65 ⟨by show _ + 0 ≤ _; omega, by show _ + 0 ≤ _; omega⟩) hS (fun _ h => h) (fun r _ H locs hg_12 hT _ _ hS => ?_)
              have hec : zCg S2 T ez := hY.wt ez he2
              unfold zCg at hec
              have hg_12r : r = some ez.1 := by rw [hg_12]; exact Option.some.inj ((List.getElem?_eq_getElem _).symm.trans (by rw [List.getElem?_map, show (S2.Wt)[k]? = some ez from kw.symm ▸ he]; rfl))
              clear hg_12
              subst hg_12r
              refine zm_top (v' := .ref ez.1) rfl ?_
              refine va_castS hx hb hown (hts _ q248) (hK.1.1 8 _ rfl).2 (zt_recv hK.1 hT hec (r := zCl[8]) rfl) dX1_night_68 ?_
              refine zc_i (zr_V (As := [.ref ez.1]) (rest := []) ⟨hx, hb, hml, hown, hts⟩ (ct_J2_add l g A _ _ _ _ (hY.ro (show 0 < 3 by decide)) (some ez.1) (by rw [List.length_map]; exact hkr 0 (by decide)) (hY.elR (show 0 < 3 by decide)) (fun v hv => by cases hv; exact Or.inl ⟨8, _, hec, by omega⟩)) zn_J2_add (lw_V q115 q116 q117 q43 q118) rfl (by decide) (by decide) hK (fun _ h => h) hS hT (zt_recvL hK.1 hT (hY.ro (show 0 < 3 by decide))) rfl hl.1 (Nat.le_of_ble_eq_true rfl) dX1_night_71 ⟨by show _ + 1 ≤ _; omega, by show _ + 160 ≤ _; omega⟩) hS (fun _ h => h) (fun r _ H locs hr1 hT _ _ hS => ?_)
              subst hr1
              obtain ⟨T, hT, hY⟩ : ∃ T1, zTH g A T1 H ∧ zSy (S2.rS 0 (S2.Rd 0 ++ [ez])) g Y T1 := ⟨_, hT, hY.rS (show 0 < 3 by decide) (S2.Rd 0 ++ [ez]) (fun e1 h1 => (List.mem_append.mp h1).elim (fun h1 => hY.rd 0 (by decide) e1 h1) (fun h1 => by rw [List.mem_singleton.mp h1]; exact hec)) (by rw [List.map_append]; rfl)⟩
              have kw : (S2.rS 0 (S2.Rd 0 ++ [ez])).Wt = S.Wt := kw
              have he2 : ez ∈ (S2.rS 0 (S2.Rd 0 ++ [ez])).Wt := he2
              refine lv_pop hx hb dX1_night_74 rfl ?_
              refine lv_aload_n hx hb dX1_night_75 rfl (lv_at hl 2 rfl) ?_
              refine zt_get hx hb hts in_X1 hown hK.1 hT ((congrArg T (congrFun ha.symm 0)).trans hY.w) rfl 5 (by decide) (hts _ q182) (fun _ h => h) rfl dX1_night_76 ?_
              refine lv_iload_n hx hb dX1_night_79 rfl (lv_at hl 0 rfl) ?_
              refine zc_q (zr_V (As := [.int (nI k)]) (rest := []) ⟨hx, hb, hml, hown, hts⟩ (ct_J2_get l g A _ _ ((S2.rS 0 (S2.Rd 0 ++ [ez])).mu 7) _ hY.wl k (by simpa using (show k < ((S2.rS 0 (S2.Rd 0 ++ [ez])).Wt).length from by rw [kw]; omega))) zn_J2_get (lw_V q234 q235 q236 q43 q237) rfl (by decide) (by decide) hK (fun _ h => h) hS hT (zt_recvL hK.1 hT hY.wl) rfl hl.1 (Nat.le_of_ble_eq_true rfl) dX1_night_80 ⟨by show _ + 0 ≤ _; omega, by show _ + 0 ≤ _; omega⟩) hS (fun _ h => h) (fun r _ H locs hg_13 hT _ _ hS => ?_)
              have hec : zCg (S2.rS 0 (S2.Rd 0 ++ [ez])) T ez := hY.wt ez he2
              unfold zCg at hec
              have hg_13r : r = some ez.1 := by rw [hg_13]; exact Option.some.inj ((List.getElem?_eq_getElem _).symm.trans (by rw [List.getElem?_map, show ((S2.rS 0 (S2.Rd 0 ++ [ez])).Wt)[k]? = some ez from kw.symm ▸ he]; rfl))
              clear hg_13
              subst hg_13r
              refine zm_top (v' := .ref ez.1) rfl ?_
              refine va_castS hx hb hown (hts _ q248) (hK.1.1 8 _ rfl).2 (zt_recv hK.1 hT hec (r := zCl[8]) rfl) dX1_night_83 ?_
              refine zt_getN hx hb hts in_X9 hown hK.1 hT hec rfl 0 (by decide) (va_Nw.use (A := args) rfl (hK.2.1.1 _ _ _ _ _ _ q899)) (fun _ h => h) rfl dX1_night_86 ?_
              refine lv_iconst (v := 1) hx hb dX1_night_89 (by decide) ?_
              refine zt_putN hx hb hts in_X4 tyX4 tyX4_ok nmX4 hown hK.1 hT hS (hY.p hep) rfl 19 (by decide) (va_Nw.use (A := args) rfl (hK.2.1.1 _ _ _ _ _ _ q419)) (fun _ h => h) rfl (v := .int 1) (tyX4_ok 19 (by decide)) (zm_nz (Or.inr rfl)) rfl (show 19 < 20 from by decide) dX1_night_90 (fun H locs hT hS => ?_)
              obtain ⟨T, hT, hY⟩ : ∃ T1, zTH g A T1 H ∧ zSy (S2.rS 0 (S2.Rd 0 ++ [ez])) g (zu Y 12 ez.2.1 1) T1 := ⟨_, hT, hY.pw hep 12 1 rfl (zpF_s (S2.rS 0 (S2.Rd 0 ++ [ez])) Y 19 12 ez.2.1 _ (by decide))⟩
              have hY2 : zSy (zNS S1 (k + 1)) g (zNX S.Wt X (k + 1)) T := by rw [hs1, hx1]; exact hY
              refine Eq.mp (congrArg (fun z => W p l e (zR 16 12 1300) s m args below meth c H locs _ z _ _) (show 6 + 160 * (k + 1) = ((6 + 160 * k) + 160) from by omega)) ?_
              refine lv_iinc (v := nI (k + 1)) (lv' := [(2, .int (nI (k + 1))), (1, .int ((zsr S true).1)), (0, .ref (S.A 0))]) hx hb dX1_night_93 hl (k := 0) rfl (nI_1 k) (by decide) rfl (fun ls hl => ?_)
              refine lv_goto (tgt := 33) hx hb dX1_night_96 (by decide) ?_
              exact ih_9 (k + 1) T (by omega) (by omega) hY2 _ _ _ hT hS (lv_sub hl [0, 1, 2] rfl)
            · refine zc_q (zr_V (As := [.int (nI 1)]) (rest := []) ⟨hx, hb, hml, hown, hts⟩ (ct_J2_get l g A _ _ (S2.mu 8) _ hY.rds 1 (by simpa using (by decide : 1 < 3))) zn_J2_get (lw_V q234 q235 q236 q43 q237) rfl (by decide) (by decide) hK (fun _ h => h) hS hT (zt_recvL hK.1 hT hY.rds) rfl hl.1 (Nat.le_of_ble_eq_true rfl) dX1_night_54 ⟨by show _ + 0 ≤ _; omega, by show _ + 0 ≤ _; omega⟩) hS (fun _ h => h) (fun r _ H locs hg_14 hT _ _ hS => ?_)
              subst hg_14
              refine zm_top (v' := .ref (S2.A (11 + 1))) rfl ?_
              refine va_castS hx hb hown (hts _ q113) (hK.1.1 9 _ rfl).2 (zt_recvL hK.1 hT (hY.ro (show 1 < 3 by decide))) dX1_night_57 ?_
              refine lv_aload_n hx hb dX1_night_60 rfl (lv_at hl 2 rfl) ?_
              refine zt_get hx hb hts in_X1 hown hK.1 hT ((congrArg T (congrFun ha.symm 0)).trans hY.w) rfl 5 (by decide) (hts _ q182) (fun _ h => h) rfl dX1_night_61 ?_
              refine lv_iload_n hx hb dX1_night_64 rfl (lv_at hl 0 rfl) ?_
              refine zc_q (zr_V (As := [.int (nI k)]) (rest := [.ref (S2.A (11 + 1))]) ⟨hx, hb, hml, hown, hts⟩ (ct_J2_get l g A _ _ (S2.mu 7) _ hY.wl k (by simpa using (show k < (S2.Wt).length from by rw [kw]; omega))) zn_J2_get (lw_V q234 q235 q236 q43 q237) rfl (by decide) (by decide) hK (fun _ h => h) hS hT (zt_recvL hK.1 hT hY.wl) rfl hl.1 (Nat.le_of_ble_eq_true rfl) dX1_night_65 ⟨by show _ + 0 ≤ _; omega, by show _ + 0 ≤ _; omega⟩) hS (fun _ h => h) (fun r _ H locs hg_15 hT _ _ hS => ?_)
              have hec : zCg S2 T ez := hY.wt ez he2
              unfold zCg at hec
              have hg_15r : r = some ez.1 := by rw [hg_15]; exact Option.some.inj ((List.getElem?_eq_getElem _).symm.trans (by rw [List.getElem?_map, show (S2.Wt)[k]? = some ez from kw.symm ▸ he]; rfl))
              clear hg_15
              subst hg_15r
              refine zm_top (v' := .ref ez.1) rfl ?_
              refine va_castS hx hb hown (hts _ q248) (hK.1.1 8 _ rfl).2 (zt_recv hK.1 hT hec (r := zCl[8]) rfl) dX1_night_68 ?_
              refine zc_i (zr_V (As := [.ref ez.1]) (rest := []) ⟨hx, hb, hml, hown, hts⟩ (ct_J2_add l g A _ _ _ _ (hY.ro (show 1 < 3 by decide)) (some ez.1) (by rw [List.length_map]; exact hkr 1 (by decide)) (hY.elR (show 1 < 3 by decide)) (fun v hv => by cases hv; exact Or.inl ⟨8, _, hec, by omega⟩)) zn_J2_add (lw_V q115 q116 q117 q43 q118) rfl (by decide) (by decide) hK (fun _ h => h) hS hT (zt_recvL hK.1 hT (hY.ro (show 1 < 3 by decide))) rfl hl.1 (Nat.le_of_ble_eq_true rfl) dX1_night_71 ⟨by show _ + 1 ≤ _; omega, by show _ + 160 ≤ _; omega⟩) hS (fun _ h => h) (fun r _ H locs hr1 hT _ _ hS => ?_)
              subst hr1
              obtain ⟨T, hT, hY⟩ : ∃ T1, zTH g A T1 H ∧ zSy (S2.rS 1 (S2.Rd 1 ++ [ez])) g Y T1 := ⟨_, hT, hY.rS (show 1 < 3 by decide) (S2.Rd 1 ++ [ez]) (fun e1 h1 => (List.mem_append.mp h1).elim (fun h1 => hY.rd 1 (by decide) e1 h1) (fun h1 => by rw [List.mem_singleton.mp h1]; exact hec)) (by rw [List.map_append]; rfl)⟩
              have kw : (S2.rS 1 (S2.Rd 1 ++ [ez])).Wt = S.Wt := kw
              have he2 : ez ∈ (S2.rS 1 (S2.Rd 1 ++ [ez])).Wt := he2
              refine lv_pop hx hb dX1_night_74 rfl ?_
              refine lv_aload_n hx hb dX1_night_75 rfl (lv_at hl 2 rfl) ?_
              refine zt_get hx hb hts in_X1 hown hK.1 hT ((congrArg T (congrFun ha.symm 0)).trans hY.w) rfl 5 (by decide) (hts _ q182) (fun _ h => h) rfl dX1_night_76 ?_
              refine lv_iload_n hx hb dX1_night_79 rfl (lv_at hl 0 rfl) ?_
              refine zc_q (zr_V (As := [.int (nI k)]) (rest := []) ⟨hx, hb, hml, hown, hts⟩ (ct_J2_get l g A _ _ ((S2.rS 1 (S2.Rd 1 ++ [ez])).mu 7) _ hY.wl k (by simpa using (show k < ((S2.rS 1 (S2.Rd 1 ++ [ez])).Wt).length from by rw [kw]; omega))) zn_J2_get (lw_V q234 q235 q236 q43 q237) rfl (by decide) (by decide) hK (fun _ h => h) hS hT (zt_recvL hK.1 hT hY.wl) rfl hl.1 (Nat.le_of_ble_eq_true rfl) dX1_night_80 ⟨by show _ + 0 ≤ _; omega, by show _ + 0 ≤ _; omega⟩) hS (fun _ h => h) (fun r _ H locs hg_16 hT _ _ hS => ?_)
              have hec : zCg (S2.rS 1 (S2.Rd 1 ++ [ez])) T ez := hY.wt ez he2
              unfold zCg at hec
              have hg_16r : r = some ez.1 := by rw [hg_16]; exact Option.some.inj ((List.getElem?_eq_getElem _).symm.trans (by rw [List.getElem?_map, show ((S2.rS 1 (S2.Rd 1 ++ [ez])).Wt)[k]? = some ez from kw.symm ▸ he]; rfl))
              clear hg_16
              subst hg_16r
              refine zm_top (v' := .ref ez.1) rfl ?_
              refine va_castS hx hb hown (hts _ q248) (hK.1.1 8 _ rfl).2 (zt_recv hK.1 hT hec (r := zCl[8]) rfl) dX1_night_83 ?_
              refine zt_getN hx hb hts in_X9 hown hK.1 hT hec rfl 0 (by decide) (va_Nw.use (A := args) rfl (hK.2.1.1 _ _ _ _ _ _ q899)) (fun _ h => h) rfl dX1_night_86 ?_
              refine lv_iconst (v := 1) hx hb dX1_night_89 (by decide) ?_
              refine zt_putN hx hb hts in_X4 tyX4 tyX4_ok nmX4 hown hK.1 hT hS (hY.p hep) rfl 19 (by decide) (va_Nw.use (A := args) rfl (hK.2.1.1 _ _ _ _ _ _ q419)) (fun _ h => h) rfl (v := .int 1) (tyX4_ok 19 (by decide)) (zm_nz (Or.inr rfl)) rfl (show 19 < 20 from by decide) dX1_night_90 (fun H locs hT hS => ?_)
              obtain ⟨T, hT, hY⟩ : ∃ T1, zTH g A T1 H ∧ zSy (S2.rS 1 (S2.Rd 1 ++ [ez])) g (zu Y 12 ez.2.1 1) T1 := ⟨_, hT, hY.pw hep 12 1 rfl (zpF_s (S2.rS 1 (S2.Rd 1 ++ [ez])) Y 19 12 ez.2.1 _ (by decide))⟩
              have hY2 : zSy (zNS S1 (k + 1)) g (zNX S.Wt X (k + 1)) T := by rw [hs1, hx1]; exact hY
              refine Eq.mp (congrArg (fun z => W p l e (zR 16 12 1300) s m args below meth c H locs _ z _ _) (show 6 + 160 * (k + 1) = ((6 + 160 * k) + 160) from by omega)) ?_
              refine lv_iinc (v := nI (k + 1)) (lv' := [(2, .int (nI (k + 1))), (1, .int ((zsr S true).1)), (0, .ref (S.A 0))]) hx hb dX1_night_93 hl (k := 0) rfl (nI_1 k) (by decide) rfl (fun ls hl => ?_)
              refine lv_goto (tgt := 33) hx hb dX1_night_96 (by decide) ?_
              exact ih_9 (k + 1) T (by omega) (by omega) hY2 _ _ _ hT hS (lv_sub hl [0, 1, 2] rfl)
            · refine zc_q (zr_V (As := [.int (nI 2)]) (rest := []) ⟨hx, hb, hml, hown, hts⟩ (ct_J2_get l g A _ _ (S2.mu 8) _ hY.rds 2 (by simpa using (by decide : 2 < 3))) zn_J2_get (lw_V q234 q235 q236 q43 q237) rfl (by decide) (by decide) hK (fun _ h => h) hS hT (zt_recvL hK.1 hT hY.rds) rfl hl.1 (Nat.le_of_ble_eq_true rfl) dX1_night_54 ⟨by show _ + 0 ≤ _; omega, by show _ + 0 ≤ _; omega⟩) hS (fun _ h => h) (fun r _ H locs hg_17 hT _ _ hS => ?_)
              subst hg_17
              refine zm_top (v' := .ref (S2.A (11 + 2))) rfl ?_
              refine va_castS hx hb hown (hts _ q113) (hK.1.1 9 _ rfl).2 (zt_recvL hK.1 hT (hY.ro (show 2 < 3 by decide))) dX1_night_57 ?_
              refine lv_aload_n hx hb dX1_night_60 rfl (lv_at hl 2 rfl) ?_
              refine zt_get hx hb hts in_X1 hown hK.1 hT ((congrArg T (congrFun ha.symm 0)).trans hY.w) rfl 5 (by decide) (hts _ q182) (fun _ h => h) rfl dX1_night_61 ?_
              refine lv_iload_n hx hb dX1_night_64 rfl (lv_at hl 0 rfl) ?_
              refine zc_q (zr_V (As := [.int (nI k)]) (rest := [.ref (S2.A (11 + 2))]) ⟨hx, hb, hml, hown, hts⟩ (ct_J2_get l g A _ _ (S2.mu 7) _ hY.wl k (by simpa using (show k < (S2.Wt).length from by rw [kw]; omega))) zn_J2_get (lw_V q234 q235 q236 q43 q237) rfl (by decide) (by decide) hK (fun _ h => h) hS hT (zt_recvL hK.1 hT hY.wl) rfl hl.1 (Nat.le_of_ble_eq_true rfl) dX1_night_65 ⟨by show _ + 0 ≤ _; omega, by show _ + 0 ≤ _; omega⟩) hS (fun _ h => h) (fun r _ H locs hg_18 hT _ _ hS => ?_)
              have hec : zCg S2 T ez := hY.wt ez he2
              unfold zCg at hec
              have hg_18r : r = some ez.1 := by rw [hg_18]; exact Option.some.inj ((List.getElem?_eq_getElem _).symm.trans (by rw [List.getElem?_map, show (S2.Wt)[k]? = some ez from kw.symm ▸ he]; rfl))
              clear hg_18
              subst hg_18r
              refine zm_top (v' := .ref ez.1) rfl ?_
              refine va_castS hx hb hown (hts _ q248) (hK.1.1 8 _ rfl).2 (zt_recv hK.1 hT hec (r := zCl[8]) rfl) dX1_night_68 ?_
              refine zc_i (zr_V (As := [.ref ez.1]) (rest := []) ⟨hx, hb, hml, hown, hts⟩ (ct_J2_add l g A _ _ _ _ (hY.ro (show 2 < 3 by decide)) (some ez.1) (by rw [List.length_map]; exact hkr 2 (by decide)) (hY.elR (show 2 < 3 by decide)) (fun v hv => by cases hv; exact Or.inl ⟨8, _, hec, by omega⟩)) zn_J2_add (lw_V q115 q116 q117 q43 q118) rfl (by decide) (by decide) hK (fun _ h => h) hS hT (zt_recvL hK.1 hT (hY.ro (show 2 < 3 by decide))) rfl hl.1 (Nat.le_of_ble_eq_true rfl) dX1_night_71 ⟨by show _ + 1 ≤ _; omega, by show _ + 160 ≤ _; omega⟩) hS (fun _ h => h) (fun r _ H locs hr1 hT _ _ hS => ?_)
              subst hr1
              obtain ⟨T, hT, hY⟩ : ∃ T1, zTH g A T1 H ∧ zSy (S2.rS 2 (S2.Rd 2 ++ [ez])) g Y T1 := ⟨_, hT, hY.rS (show 2 < 3 by decide) (S2.Rd 2 ++ [ez]) (fun e1 h1 => (List.mem_append.mp h1).elim (fun h1 => hY.rd 2 (by decide) e1 h1) (fun h1 => by rw [List.mem_singleton.mp h1]; exact hec)) (by rw [List.map_append]; rfl)⟩
              have kw : (S2.rS 2 (S2.Rd 2 ++ [ez])).Wt = S.Wt := kw
              have he2 : ez ∈ (S2.rS 2 (S2.Rd 2 ++ [ez])).Wt := he2
              refine lv_pop hx hb dX1_night_74 rfl ?_
              refine lv_aload_n hx hb dX1_night_75 rfl (lv_at hl 2 rfl) ?_
              refine zt_get hx hb hts in_X1 hown hK.1 hT ((congrArg T (congrFun ha.symm 0)).trans hY.w) rfl 5 (by decide) (hts _ q182) (fun _ h => h) rfl dX1_night_76 ?_
              refine lv_iload_n hx hb dX1_night_79 rfl (lv_at hl 0 rfl) ?_
              refine zc_q (zr_V (As := [.int (nI k)]) (rest := []) ⟨hx, hb, hml, hown, hts⟩ (ct_J2_get l g A _ _ ((S2.rS 2 (S2.Rd 2 ++ [ez])).mu 7) _ hY.wl k (by simpa using (show k < ((S2.rS 2 (S2.Rd 2 ++ [ez])).Wt).length from by rw [kw]; omega))) zn_J2_get (lw_V q234 q235 q236 q43 q237) rfl (by decide) (by decide) hK (fun _ h => h) hS hT (zt_recvL hK.1 hT hY.wl) rfl hl.1 (Nat.le_of_ble_eq_true rfl) dX1_night_80 ⟨by show _ + 0 ≤ _; omega, by show _ + 0 ≤ _; omega⟩) hS (fun _ h => h) (fun r _ H locs hg_19 hT _ _ hS => ?_)
              have hec : zCg (S2.rS 2 (S2.Rd 2 ++ [ez])) T ez := hY.wt ez he2
              unfold zCg at hec
              have hg_19r : r = some ez.1 := by rw [hg_19]; exact Option.some.inj ((List.getElem?_eq_getElem _).symm.trans (by rw [List.getElem?_map, show ((S2.rS 2 (S2.Rd 2 ++ [ez])).Wt)[k]? = some ez from kw.symm ▸ he]; rfl))
              clear hg_19
              subst hg_19r
              refine zm_top (v' := .ref ez.1) rfl ?_
              refine va_castS hx hb hown (hts _ q248) (hK.1.1 8 _ rfl).2 (zt_recv hK.1 hT hec (r := zCl[8]) rfl) dX1_night_83 ?_
              refine zt_getN hx hb hts in_X9 hown hK.1 hT hec rfl 0 (by decide) (va_Nw.use (A := args) rfl (hK.2.1.1 _ _ _ _ _ _ q899)) (fun _ h => h) rfl dX1_night_86 ?_
              refine lv_iconst (v := 1) hx hb dX1_night_89 (by decide) ?_
              refine zt_putN hx hb hts in_X4 tyX4 tyX4_ok nmX4 hown hK.1 hT hS (hY.p hep) rfl 19 (by decide) (va_Nw.use (A := args) rfl (hK.2.1.1 _ _ _ _ _ _ q419)) (fun _ h => h) rfl (v := .int 1) (tyX4_ok 19 (by decide)) (zm_nz (Or.inr rfl)) rfl (show 19 < 20 from by decide) dX1_night_90 (fun H locs hT hS => ?_)
              obtain ⟨T, hT, hY⟩ : ∃ T1, zTH g A T1 H ∧ zSy (S2.rS 2 (S2.Rd 2 ++ [ez])) g (zu Y 12 ez.2.1 1) T1 := ⟨_, hT, hY.pw hep 12 1 rfl (zpF_s (S2.rS 2 (S2.Rd 2 ++ [ez])) Y 19 12 ez.2.1 _ (by decide))⟩
              have hY2 : zSy (zNS S1 (k + 1)) g (zNX S.Wt X (k + 1)) T := by rw [hs1, hx1]; exact hY
              refine Eq.mp (congrArg (fun z => W p l e (zR 16 12 1300) s m args below meth c H locs _ z _ _) (show 6 + 160 * (k + 1) = ((6 + 160 * k) + 160) from by omega)) ?_
              refine lv_iinc (v := nI (k + 1)) (lv' := [(2, .int (nI (k + 1))), (1, .int ((zsr S true).1)), (0, .ref (S.A 0))]) hx hb dX1_night_93 hl (k := 0) rfl (nI_1 k) (by decide) rfl (fun ls hl => ?_)
              refine lv_goto (tgt := 33) hx hb dX1_night_96 (by decide) ?_
              exact ih_9 (k + 1) T (by omega) (by omega) hY2 _ _ _ hT hS (lv_sub hl [0, 1, 2] rfl)
      exact L_8 ((S.Wt.length + 1 - 0) + 1) 0 T (Nat.lt_succ_self _) (Nat.zero_le _) hY _ _ _ hT hS (lv_sub hl [0, 1, 2] rfl)
