theorem zn_X1_lifeAnew : zN yX1_lifeAnew 1 := by decide +kernel
set_option maxHeartbeats 4000000 in
theorem ct_X1_lifeAnew (l : Launch) (hl0 : l.stackTraces = false) (g : zG) (A : Nat → Prop) (S : zS) (X : zX) (T_0 : zT) (hY : zSy S g X T_0) (hI : MH X) (hL : zLo S X) (hHs : ∀ i k, zHs X ((S.L.take k).foldl (zrp i) (zf6 60, 0)).1) (hlf : ∀ i, i < mN X → (S.L.foldl (zrp i) (zf6 60, 0)).2 = X 6 i) (x : Int32) : vx_Met l yX1_lifeAnew (ws_ yX1_lifeAnew cX1_lifeAnew 7 (some .int)) (zR 8 3 70) (zP [.ref (S.A 0), .int x] g A (zTH g A T_0)) (va_Qi (fun rz_ (T1 : zT) => (rz_ = (m_life X x).1 ∧ (m_life X x).2 0 0 = 0) ∧ zSy S g (m_life X x).2 T1) (fun T1 t => zTH g A T1 t.heap) A) (zXC (fun E => (E = xIO ∧ (m_life X x).2 0 0 = 1)) g A T_0) 3 70 A := by
  refine zb_xmet (by decide) (Nat.le_of_ble_eq_true rfl) ?_
  intro p e s m args below meth c ls hx hb hr hml hown hts hlocks hnm hK hT ha_ hl hout
  have hown : s.vm.findClass RX1 = some m.cls := hown
  have hS : va_S A s.heap s.heap [] := va_S.rf
  have hl : lv_has ls 7 [(0, .ref (S.A 0)), (1, .int x)] := hl
  refine lv_aload_n hx hb dX1_lifeAnew_0 rfl (lv_at hl 0 rfl) ?_
  refine zt_get hx hb hts in_X1 hown hK.1 hT hY.w rfl 0 (by decide) (hts _ q177) (fun _ h => h) rfl dX1_lifeAnew_1 ?_
  refine lv_iload_n hx hb dX1_lifeAnew_4 rfl (lv_at hl 1 rfl) ?_
  refine zxc_q (zxr_V (As := [.int x]) (rest := []) ⟨hx, hb, hml, hown, hts⟩ (ct_X2_need l hl0 g A S X _ hY hI x) zn_X2_need (lw_V q514 q515 q516 q40 q517) rfl (by decide) (by decide) hK (fun _ h => h) hS hT (zt_recv hK.1 hT hY.rk rfl) rfl hl.1 (Nat.le_of_ble_eq_true rfl) dX1_lifeAnew_5 ⟨by show _ + 1 ≤ _; omega, by show _ + 6 ≤ _; omega⟩) hS hout hlocks (fun E hE => by obtain ⟨rfl, h0⟩ := hE; exact ⟨rfl, by unfold m_life; simp [zu, h0]⟩) (by show _ + 1 ≤ 3; omega) (by show _ + 6 ≤ 70; omega) (fun r _ H locs hr_1 hT _ _ hS => ?_)
  obtain ⟨rfl, hm_2⟩ := hr_1
  obtain ⟨hq_3, hq_4⟩ := mIs_p hI hm_2
  refine zm_top (v' := .ref (S.pa x.toNatClampNeg)) rfl ?_
  refine lv_pop hx hb dX1_lifeAnew_8 rfl ?_
  have hp := hq_4
  have hl99 := hL.1
  have hxe : x = nI x.toNatClampNeg := (mIs_p hI hm_2).1
  refine lv_bipush (v := 60) hx hb dX1_lifeAnew_9 (by decide) ?_
  refine zm_topi (y := nI 60) rfl ?_
  refine zt_newI hx hb (hts _ q208) hK.1 hT hS (n := 60) (by decide) (by show _ + 1 ≤ 3; omega) (by show _ + 60 ≤ 70; omega) dX1_lifeAnew_11 (fun ar H harn hT hS => ?_)
  have hoff : zOff S X ar := hY.offn harn
  obtain ⟨T, hT, hY, har⟩ : ∃ T1, zTH g A T1 H ∧ zSy S g X T1 ∧ T1 ar = some (.inl (zI g 60 (zf6 0))) := ⟨_, hT, hY.fresh harn _, by rw [show zf6 0 = (fun _ => 0) from by funext i; unfold zf6; rw [if_neg (by omega)]]; exact va_up_self _ _ _⟩
  refine lv_astore_n (lv' := [(2, .ref ar), (0, .ref (S.A 0)), (1, .int x)]) hx hb dX1_lifeAnew_13 rfl hl (by decide) rfl (fun ls hl => ?_)
  refine lv_iconst (v := 0) hx hb dX1_lifeAnew_14 (by decide) ?_
  refine lv_istore_n (lv' := [(3, .int 0), (2, .ref ar), (0, .ref (S.A 0)), (1, .int x)]) hx hb dX1_lifeAnew_15 rfl hl (by decide) rfl (fun ls hl => ?_)
  have L_6 : ∀ (n_5 : Nat) (k : Nat) (T : zT), (61 - k) < n_5 → (k ≤ 60) → (T ar = some (.inl (zI g 60 (zf6 k)))) → (zSy S g X T) → ∀ (H : Heap) (locs : List Loc) (ls : Array Slot), zTH g A T H → va_S A s.heap H locs → lv_has ls 7 [(3, .int (nI k)), (2, .ref ar), (0, .ref (S.A 0)), (1, .int x)] → W p l e (zR 8 3 70) s m args below meth c H locs ((0 + 1) + 1) ((0 + 6) + 60) (vx_MQ below (va_Qi (fun rz_ (T1 : zT) => (rz_ = (m_life X x).1 ∧ (m_life X x).2 0 0 = 0) ∧ zSy S g (m_life X x).2 T1) (fun T1 t => zTH g A T1 t.heap) A) (zXC (fun E => (E = xIO ∧ (m_life X x).2 0 0 = 1)) g A T_0) args s 3 70 A) (F0 m 16 ls []) := by
    intro n_5
    induction n_5 with
    | zero => intro k T hm; exact absurd hm (Nat.not_lt_zero _)
    | succ n_5 ih =>
      intro k T hm hk har hY H locs ls hT hS hl
      have ih_7 := ih
      refine lv_iload_n hx hb dX1_lifeAnew_16 rfl (lv_at hl 0 rfl) ?_
      refine lv_bipush (v := 60) hx hb dX1_lifeAnew_17 (by decide) ?_
      refine zl_ge (tgt := 32) (a := k) (b := 60) hx hb (by first | decide | omega) (by first | decide | omega) dX1_lifeAnew_19 (by decide) (fun c_8 => ?_) (fun c_8 => ?_)
      · have hk60 : k = 60 := by omega
        subst hk60
        refine lv_iconst (v := 0) hx hb dX1_lifeAnew_32 (by decide) ?_
        refine lv_istore_n (lv' := [(3, .int 0), (2, .ref ar), (0, .ref (S.A 0)), (1, .int x)]) hx hb dX1_lifeAnew_33 rfl hl (by decide) rfl (fun ls hl => ?_)
        refine lv_aload_n hx hb dX1_lifeAnew_34 rfl (lv_at hl 2 rfl) ?_
        refine zt_get hx hb hts in_X1 hown hK.1 hT hY.w rfl 4 (by decide) (hts _ q181) (fun _ h => h) rfl dX1_lifeAnew_35 ?_
        refine zc_q (zr_V (As := []) (rest := []) ⟨hx, hb, hml, hown, hts⟩ (ct_J2_iterator l g A _ _ _ _ hY.lg) zn_J2_iterator (lw_V q745 q746 q747 q43 q748) rfl (by decide) (by decide) hK (fun _ h => h) hS hT (zt_recvL hK.1 hT hY.lg) rfl hl.1 (Nat.le_of_ble_eq_true rfl) dX1_lifeAnew_38 ⟨by show _ + 1 ≤ _; omega, by show _ + 4 ≤ _; omega⟩) hS (fun _ h => h) (fun r it H locs hr1 hT _ _ hS => ?_)
        obtain ⟨rfl, hnit⟩ := hr1
        have nehar : ar ≠ it := fun z => by rw [z, hnit] at har; cases har
        obtain ⟨T, hT, hY, hit, har⟩ : ∃ T1, zTH g A T1 H ∧ zSy S g X T1 ∧ T1 it = some (.inl (zo 10 [.int (nI 0), .int (-1), .int (S.mu 6), .ref (S.A 6)])) ∧ T1 ar = some (.inl (zI g 60 (zf6 60))) := ⟨_, hT, hY.fresh hnit _, va_up_self _ _ _, (va_up_ne _ _ nehar).trans har⟩
        refine zm_top (v' := .ref it) rfl ?_
        refine lv_astore (lv' := [(4, .ref it), (3, .int 0), (2, .ref ar), (0, .ref (S.A 0)), (1, .int x)]) hx hb dX1_lifeAnew_41 hl (by decide) rfl (fun ls hl => ?_)
        have L_10 : ∀ (n_9 : Nat) (k : Nat) (lr : Int32) (T : zT), (S.L.length + 1 - k) < n_9 → (k ≤ S.L.length) → (T it = some (.inl (zo 10 [.int (nI k), .int lr, .int (S.mu 6), .ref (S.A 6)]))) → (T ar = some (.inl (zI g 60 ((S.L.take k).foldl (zrp x.toNatClampNeg) (zf6 60, 0)).1))) → (zSy S g X T) → ∀ (H : Heap) (locs : List Loc) (ls : Array Slot), zTH g A T H → va_S A s.heap H locs → lv_has ls 7 [(4, .ref it), (3, .int (((S.L.take k).foldl (zrp x.toNatClampNeg) (zf6 60, 0)).2)), (2, .ref ar), (0, .ref (S.A 0)), (1, .int x)] → W p l e (zR 8 3 70) s m args below meth c H locs (((0 + 1) + 1) + 1) (((0 + 6) + 60) + 4) (vx_MQ below (va_Qi (fun rz_ (T1 : zT) => (rz_ = (m_life X x).1 ∧ (m_life X x).2 0 0 = 0) ∧ zSy S g (m_life X x).2 T1) (fun T1 t => zTH g A T1 t.heap) A) (zXC (fun E => (E = xIO ∧ (m_life X x).2 0 0 = 1)) g A T_0) args s 3 70 A) (F0 m 43 ls []) := by
          intro n_9
          induction n_9 with
          | zero => intro k lr T hm; exact absurd hm (Nat.not_lt_zero _)
          | succ n_9 ih =>
            intro k lr T hm hk hit har hY H locs ls hT hS hl
            have ih_11 := ih
            have hHk := hHs x.toNatClampNeg k
            obtain ⟨u, eu⟩ : ∃ u, u = (S.L.take k).foldl (zrp x.toNatClampNeg) (zf6 60, 0) := ⟨_, rfl⟩
            rw [← eu] at har hHk
            refine lv_aload hx hb dX1_lifeAnew_43 (lv_at hl 0 rfl) ?_
            refine zc5_i (zr_F (As := []) (rest := []) (hK.1.1 10 _ rfl).2 ⟨hx, hb, hml, hown, hts⟩ (ct_J16_hasNext l g A _ _ _ _ hY.lg it k _ hit (by simp; omega) (by simp; omega)) zn_F_has (lw_F q769 q773 q775 q63 q777) hK.2.1.2.2.2.2.2.2.2.1 (by decide) (by decide) hK (fun _ h => h) hS hT (zt_recv hK.1 hT hit rfl) rfl hl.1 (Nat.le_of_ble_eq_true rfl) dX1_lifeAnew_45 ⟨by show _ + 0 ≤ _; omega, by show _ + 0 ≤ _; omega⟩) hS (fun _ h => h) (fun r _ H locs hr1 hT _ _ hS => ?_)
            subst hr1
            refine zm_topi (y := zb (decide (k < S.L.length))) (by simp) ?_
            refine zl_ifeq (tgt := 142) hx hb dX1_lifeAnew_50 (by decide) (fun c_12 => ?_) (fun c_12 => ?_)
            · refine lv_iload_n hx hb dX1_lifeAnew_142 rfl (lv_at hl 1 rfl) ?_
              have hkl : k = S.L.length := by have := of_decide_eq_false c_12; omega
              have e1 : m_life X x = (((S.L.take k).foldl (zrp x.toNatClampNeg) (zf6 60, 0)).2, zu X 0 0 0) := by unfold m_life; rw [if_neg (by rw [hm_2]; decide), hkl, List.take_length, hlf _ hp]
              exact vx_ret (ze_i hx hb hr hlocks hS dX1_lifeAnew_143 (by show _ ≤ 3; omega) (by show _ ≤ 70; omega) T (by rw [e1]; exact ⟨⟨rfl, zu_s X 0 0 0⟩, hY.hid 0 0 0 (Or.inl rfl)⟩) hT)
            · refine lv_aload hx hb dX1_lifeAnew_53 (lv_at hl 0 rfl) ?_
              have hkit := of_decide_eq_true c_12
              refine zc5_q (zr_F (As := []) (rest := []) (hK.1.1 10 _ rfl).2 ⟨hx, hb, hml, hown, hts⟩ (ct_J16_next l g A _ _ _ _ hY.lg it k _ hit (by simp; omega)) zn_F_nxt (lw_F q779 q782 q784 q63 q786) hK.2.1.2.2.2.2.2.2.2.2.1 (by decide) (by decide) hK (fun _ h => h) hS hT (zt_recv hK.1 hT hit rfl) rfl hl.1 (Nat.le_of_ble_eq_true rfl) dX1_lifeAnew_55 ⟨by show _ + 0 ≤ _; omega, by show _ + 0 ≤ _; omega⟩) hS (fun _ h => h) (fun r _ H locs hg_13 hT _ _ hS => ?_)
              obtain ⟨T, hT, hY, hit, har⟩ : ∃ T1, zTH g A T1 H ∧ zSy S g X T1 ∧ T1 it = some (.inl (zo 10 [.int (nI (k + 1)), .int (nI k), .int (S.mu 6), .ref (S.A 6)])) ∧ T1 ar = some (.inl (zI g 60 u.1)) := ⟨_, hT, hY.itu hit _, va_up_self _ _ _, (va_up_ne _ _ nehar).trans har⟩
              obtain ⟨ez, he⟩ : ∃ e, S.L[k]? = some e := ⟨_, List.getElem?_eq_getElem (by omega)⟩
              have hem := List.mem_of_getElem? he
              have hec := hY.log ez hem
              obtain ⟨hep, heh⟩ := hL.2 ez hem
              unfold zWk at hec
              have hg_13r : r = some ez.1 := by rw [hg_13]; exact Option.some.inj ((List.getElem?_eq_getElem _).symm.trans (by rw [List.getElem?_map, he]; rfl))
              clear hg_13
              subst hg_13r
              refine zm_top (v' := .ref ez.1) rfl ?_
              refine va_castS hx hb hown (hts _ q571) (hK.1.1 5 _ rfl).2 (zt_recv hK.1 hT hec (r := zCl[5]) rfl) dX1_lifeAnew_60 ?_
              refine lv_astore (lv' := [(5, .ref ez.1), (4, .ref it), (3, .int (((S.L.take k).foldl (zrp x.toNatClampNeg) (zf6 60, 0)).2)), (2, .ref ar), (0, .ref (S.A 0)), (1, .int x)]) hx hb dX1_lifeAnew_63 hl (by decide) rfl (fun ls hl => ?_)
              refine lv_aload hx hb dX1_lifeAnew_65 (lv_at hl 0 rfl) ?_
              refine zt_getN hx hb hts in_X6 hown hK.1 hT hec rfl 2 (by decide) (va_Nw.use (A := args) rfl (hK.2.1.1 _ _ _ _ _ _ q582)) (fun _ h => h) rfl dX1_lifeAnew_67 ?_
              refine lv_if_ne (tgt := 94) hx hb dX1_lifeAnew_70 (by decide) (fun c_14 => ?_) (fun c_14 => ?_)
              · refine lv_iload_n hx hb dX1_lifeAnew_94 rfl (lv_at hl 5 rfl) ?_
                refine zm_topi (y := nI x.toNatClampNeg) hxe ?_
                refine lv_istore (lv' := [(6, .int (nI x.toNatClampNeg)), (5, .ref ez.1), (4, .ref it), (3, .int (((S.L.take k).foldl (zrp x.toNatClampNeg) (zf6 60, 0)).2)), (2, .ref ar), (0, .ref (S.A 0)), (1, .int x)]) hx hb dX1_lifeAnew_95 hl (by decide) rfl (fun ls hl => ?_)
                have L_16 : ∀ (n_15 : Nat) (j : Nat) (f : Nat), f < n_15 → (j < mN X) → (zhf u.1 f j = zhf u.1 5 x.toNatClampNeg) → (mK X j < f) → ∀ (H : Heap) (locs : List Loc) (ls : Array Slot), zTH g A T H → va_S A s.heap H locs → lv_has ls 7 [(6, .int (nI j)), (5, .ref ez.1), (4, .ref it), (3, .int (((S.L.take k).foldl (zrp x.toNatClampNeg) (zf6 60, 0)).2)), (2, .ref ar), (0, .ref (S.A 0)), (1, .int x)] → W p l e (zR 8 3 70) s m args below meth c H locs (((0 + 1) + 1) + 1) (((0 + 6) + 60) + 4) (vx_MQ below (va_Qi (fun rz_ (T1 : zT) => (rz_ = (m_life X x).1 ∧ (m_life X x).2 0 0 = 0) ∧ zSy S g (m_life X x).2 T1) (fun T1 t => zTH g A T1 t.heap) A) (zXC (fun E => (E = xIO ∧ (m_life X x).2 0 0 = 1)) g A T_0) args s 3 70 A) (F0 m 97 ls []) := by
                  intro n_15
                  induction n_15 with
                  | zero => intro j f hm; exact absurd hm (Nat.not_lt_zero _)
                  | succ n_15 ih =>
                    intro j f hm hj hf hfm H locs ls hT hS hl
                    have ih_17 := ih
                    obtain ⟨f, rfl⟩ : ∃ i, f = i + 1 := ⟨f - 1, by omega⟩
                    have hn60 := hI.1.2
                    refine lv_aload_n hx hb dX1_lifeAnew_97 rfl (lv_at hl 4 rfl) ?_
                    refine lv_iload hx hb dX1_lifeAnew_98 (lv_at hl 0 rfl) ?_
                    refine zt_ild (k := j) hx hb hK.1 hT har (by omega) (by omega) dX1_lifeAnew_100 ?_
                    refine lv_iconst (v := (-1)) hx hb dX1_lifeAnew_101 (by decide) ?_
                    refine lv_icmp_eq (tgt := 114) hx hb dX1_lifeAnew_102 (by decide) (fun c_18 => ?_) (fun c_18 => ?_)
                    · have hfj : zhf u.1 5 x.toNatClampNeg = j := by rw [← hf]; show (if u.1 j = -1 then j else _) = j; rw [if_pos c_18]
                      refine lv_iload_n hx hb dX1_lifeAnew_114 rfl (lv_at hl 3 rfl) ?_
                      refine lv_iload hx hb dX1_lifeAnew_115 (lv_at hl 0 rfl) ?_
                      refine lv_aload hx hb dX1_lifeAnew_117 (lv_at hl 1 rfl) ?_
                      refine zt_getN hx hb hts in_X6 hown hK.1 hT hec rfl 0 (by decide) (va_Nw.use (A := args) rfl (hK.2.1.1 _ _ _ _ _ _ q578)) (fun _ h => h) rfl dX1_lifeAnew_119 ?_
                      refine zt_getN hx hb hts in_X4 hown hK.1 hT (hY.p hep) rfl 0 (by decide) (va_Nw.use (A := args) rfl (hK.2.1.1 _ _ _ _ _ _ q383)) (fun _ h => h) rfl dX1_lifeAnew_122 ?_
                      refine zl_ne (tgt := 136) (a := j) (b := ez.2.1) hx hb (by first | decide | omega) (by first | decide | omega) dX1_lifeAnew_125 (by decide) (fun c_19 => ?_) (fun c_19 => ?_)
                      · refine lv_iconst (v := 0) hx hb dX1_lifeAnew_136 (by decide) ?_
                        refine lv_iadd hx hb dX1_lifeAnew_137 ?_
                        have hst : (S.L.take (k + 1)).foldl (zrp x.toNatClampNeg) (zf6 60, 0) = (u.1, u.2 + (if zhf u.1 5 x.toNatClampNeg = ez.2.1 then ez.2.2.2 else 0)) := by rw [zftL he, ← eu]; unfold zrp; rw [if_neg c_14]
                        refine zm_topi (y := ((S.L.take (k + 1)).foldl (zrp x.toNatClampNeg) (zf6 60, 0)).2) (by rw [hst, hfj, if_neg c_19, ← eu]) ?_
                        have har2 : T ar = some (.inl (zI g 60 ((S.L.take (k + 1)).foldl (zrp x.toNatClampNeg) (zf6 60, 0)).1)) := by rw [hst]; exact har
                        refine lv_istore_n (lv' := [(3, .int (((S.L.take (k + 1)).foldl (zrp x.toNatClampNeg) (zf6 60, 0)).2)), (6, .int (nI j)), (5, .ref ez.1), (4, .ref it), (2, .ref ar), (0, .ref (S.A 0)), (1, .int x)]) hx hb dX1_lifeAnew_138 rfl hl (by decide) rfl (fun ls hl => ?_)
                        refine lv_goto (tgt := 43) hx hb dX1_lifeAnew_139 (by decide) ?_
                        exact ih_11 (k + 1) (nI k) T (by omega) (by omega) hit har2 hY _ _ _ hT hS (lv_sub hl [3, 0, 4, 5, 6] rfl)
                      · refine lv_aload hx hb dX1_lifeAnew_128 (lv_at hl 1 rfl) ?_
                        refine zt_getN hx hb hts in_X6 hown hK.1 hT hec rfl 2 (by decide) (va_Nw.use (A := args) rfl (hK.2.1.1 _ _ _ _ _ _ q582)) (fun _ h => h) rfl dX1_lifeAnew_130 ?_
                        refine lv_goto (tgt := 137) hx hb dX1_lifeAnew_133 (by decide) ?_
                        refine lv_iadd hx hb dX1_lifeAnew_137 ?_
                        have hst : (S.L.take (k + 1)).foldl (zrp x.toNatClampNeg) (zf6 60, 0) = (u.1, u.2 + (if zhf u.1 5 x.toNatClampNeg = ez.2.1 then ez.2.2.2 else 0)) := by rw [zftL he, ← eu]; unfold zrp; rw [if_neg c_14]
                        refine zm_topi (y := ((S.L.take (k + 1)).foldl (zrp x.toNatClampNeg) (zf6 60, 0)).2) (by rw [hst, hfj, if_pos c_19, ← eu]) ?_
                        have har2 : T ar = some (.inl (zI g 60 ((S.L.take (k + 1)).foldl (zrp x.toNatClampNeg) (zf6 60, 0)).1)) := by rw [hst]; exact har
                        refine lv_istore_n (lv' := [(3, .int (((S.L.take (k + 1)).foldl (zrp x.toNatClampNeg) (zf6 60, 0)).2)), (6, .int (nI j)), (5, .ref ez.1), (4, .ref it), (2, .ref ar), (0, .ref (S.A 0)), (1, .int x)]) hx hb dX1_lifeAnew_138 rfl hl (by decide) rfl (fun ls hl => ?_)
                        refine lv_goto (tgt := 43) hx hb dX1_lifeAnew_139 (by decide) ?_
                        exact ih_11 (k + 1) (nI k) T (by omega) (by omega) hit har2 hY _ _ _ hT hS (lv_sub hl [3, 0, 4, 5, 6] rfl)
                    · refine lv_aload_n hx hb dX1_lifeAnew_105 rfl (lv_at hl 4 rfl) ?_
                      refine lv_iload hx hb dX1_lifeAnew_106 (lv_at hl 0 rfl) ?_
                      refine zt_ild (k := j) hx hb hK.1 hT har (by omega) (by omega) dX1_lifeAnew_108 ?_
                      obtain ⟨h2, e2, hj2, hk2⟩ := (hHk j hj).resolve_left c_18
                      have e3 : (u.1 j).toNatClampNeg = h2 := by rw [e2]; exact nI_clamp (by omega)
                      have hf2 : zhf u.1 f (u.1 j).toNatClampNeg = zhf u.1 5 x.toNatClampNeg := by rw [← hf]; show _ = (if u.1 j = -1 then j else zhf u.1 f (u.1 j).toNatClampNeg); rw [if_neg c_18]
                      rw [← e3] at hj2 hk2
                      refine zm_topi (y := nI (u.1 j).toNatClampNeg) (by rw [e3]; exact e2) ?_
                      refine lv_istore (lv' := [(6, .int (nI ((u.1 j).toNatClampNeg))), (5, .ref ez.1), (4, .ref it), (3, .int (((S.L.take k).foldl (zrp x.toNatClampNeg) (zf6 60, 0)).2)), (2, .ref ar), (0, .ref (S.A 0)), (1, .int x)]) hx hb dX1_lifeAnew_109 hl (by decide) rfl (fun ls hl => ?_)
                      refine lv_goto (tgt := 97) hx hb dX1_lifeAnew_111 (by decide) ?_
                      exact ih_17 ((u.1 j).toNatClampNeg) f (by omega) hj2 hf2 (by omega) _ _ _ hT hS (lv_sub hl [0, 1, 2, 3, 4, 5, 6] rfl)
                exact L_16 (5 + 1) x.toNatClampNeg 5 (Nat.lt_succ_self _) hp rfl (Nat.lt_succ_of_le (hI.2.1 _ hp).2) _ _ _ hT hS (lv_sub hl [0, 1, 2, 3, 4, 5, 6] rfl)
              · refine lv_aload_n hx hb dX1_lifeAnew_73 rfl (lv_at hl 3 rfl) ?_
                refine lv_aload hx hb dX1_lifeAnew_74 (lv_at hl 0 rfl) ?_
                refine zt_getN hx hb hts in_X6 hown hK.1 hT hec rfl 0 (by decide) (va_Nw.use (A := args) rfl (hK.2.1.1 _ _ _ _ _ _ q578)) (fun _ h => h) rfl dX1_lifeAnew_76 ?_
                refine zt_getN hx hb hts in_X4 hown hK.1 hT (hY.p hep) rfl 0 (by decide) (va_Nw.use (A := args) rfl (hK.2.1.1 _ _ _ _ _ _ q383)) (fun _ h => h) rfl dX1_lifeAnew_79 ?_
                refine lv_aload hx hb dX1_lifeAnew_82 (lv_at hl 0 rfl) ?_
                refine zt_getN hx hb hts in_X6 hown hK.1 hT hec rfl 1 (by decide) (va_Nw.use (A := args) rfl (hK.2.1.1 _ _ _ _ _ _ q580)) (fun _ h => h) rfl dX1_lifeAnew_84 ?_
                refine zc_i (zr_S (As := [va_rf (ez.2.2.1.map S.pa)]) (rest := [.int (nI ez.2.1), .ref ar]) ⟨hx, hb, hml, hown, hts⟩ (ct_X1_numberOf l g A S X _ hY ez.2.2.1 heh) zn_X1_numberOf (lw_S q940 q941 q39 q942) (by decide) (by decide) hK (fun _ h => h) hS hT rfl hl.1 (Nat.le_of_ble_eq_true rfl) dX1_lifeAnew_87 ⟨by show _ + 0 ≤ _; omega, by show _ + 0 ≤ _; omega⟩) hS (fun _ h => h) (fun r _ H locs hr1 hT _ _ hS => ?_)
                subst hr1
                have hst : (S.L.take (k + 1)).foldl (zrp x.toNatClampNeg) (zf6 60, 0) = (va_up u.1 ez.2.1 (zro2 ez.2.2.1), u.2) := by rw [zftL he, ← eu]; unfold zrp; rw [if_pos c_14]
                refine zt_ist (k := ez.2.1) hx hb hK.1 hT hS har (by have := hI.1.2; omega) (by decide) dX1_lifeAnew_90 (fun H locs hT hS => ?_)
                obtain ⟨T, hT, hY, har2, hit⟩ : ∃ T1, zTH g A T1 H ∧ zSy S g X T1 ∧ T1 ar = some (.inl (zI g 60 ((S.L.take (k + 1)).foldl (zrp x.toNatClampNeg) (zf6 60, 0)).1)) ∧ T1 it = some (.inl (zo 10 [.int (nI (k + 1)), .int (nI k), .int (S.mu 6), .ref (S.A 6)])) := ⟨_, hT, hY.off hoff _, (va_up_self _ _ _).trans (by rw [hst]), (va_up_ne _ _ nehar.symm).trans hit⟩
                have hl : lv_has ls 7 [(5, .ref ez.1), (4, .ref it), (3, .int (((S.L.take (k + 1)).foldl (zrp x.toNatClampNeg) (zf6 60, 0)).2)), (2, .ref ar), (0, .ref (S.A 0)), (1, .int x)] := by rw [hst]; rw [← eu] at hl; exact hl
                refine lv_goto (tgt := 139) hx hb dX1_lifeAnew_91 (by decide) ?_
                refine lv_goto (tgt := 43) hx hb dX1_lifeAnew_139 (by decide) ?_
                exact ih_11 (k + 1) (nI k) T (by omega) (by omega) hit har2 hY _ _ _ hT hS (lv_sub hl [1, 2, 3, 4, 5] rfl)
        exact L_10 ((S.L.length + 1 - 0) + 1) 0 (-1) T (Nat.lt_succ_self _) (Nat.zero_le _) hit har hY _ _ _ hT hS (lv_sub hl [0, 1, 2, 3, 4] rfl)
      · refine lv_aload_n hx hb dX1_lifeAnew_22 rfl (lv_at hl 1 rfl) ?_
        refine lv_iload_n hx hb dX1_lifeAnew_23 rfl (lv_at hl 0 rfl) ?_
        refine lv_iconst (v := (-1)) hx hb dX1_lifeAnew_24 (by decide) ?_
        refine zt_ist (k := k) hx hb hK.1 hT hS har (by omega) (by decide) dX1_lifeAnew_25 (fun H locs hT hS => ?_)
        obtain ⟨T, hT, hY, har⟩ : ∃ T1, zTH g A T1 H ∧ zSy S g X T1 ∧ T1 ar = some (.inl (zI g 60 (zf6 (k + 1)))) := ⟨_, hT, hY.off hoff _, (va_up_self _ _ _).trans (by rw [zf6_s])⟩
        refine lv_iinc (v := nI (k + 1)) (lv' := [(3, .int (nI (k + 1))), (2, .ref ar), (0, .ref (S.A 0)), (1, .int x)]) hx hb dX1_lifeAnew_26 hl (k := 0) rfl (nI_1 k) (by decide) rfl (fun ls hl => ?_)
        refine lv_goto (tgt := 16) hx hb dX1_lifeAnew_29 (by decide) ?_
        exact ih_7 (k + 1) T (by omega) (by omega) har hY _ _ _ hT hS (lv_sub hl [0, 1, 2, 3] rfl)
  exact L_6 ((61 - 0) + 1) 0 T (Nat.lt_succ_self _) (by decide) har hY _ _ _ hT hS (lv_sub hl [0, 1, 2, 3] rfl)
