theorem zn_X4_go : zN yX4_go 2 := by decide +kernel
set_option maxHeartbeats 4000000 in
theorem ct_X4_go (l : Launch) (g : zG) (A : Nat → Prop) (S : zS) (km se : Int32) (n : Nat) : ∀ (X : zX) (T : zT) (hY : zSy S g X T) (hI : MH X) (hC : zKo S X) (hKk : zKk S X) (i : Nat) (hi : i < mN X) (hn : 5 ≤ mK X i + n) (hnd : (zDn S n i).Nodup) (hfl : ∀ p ∈ zDn S n i, zfl X km p), Met l yX4_go (ws_ yX4_go cX4_go 6 none) (zR (n + 6) 0 0) (zP [.ref (S.pa i), .int km, .int (mFa se)] g A (zTH g A T)) (va_Qv (fun (T1 : zT) => zSy S g (zgo S km se n i X) T1) (fun T1 t => zTH g A T1 t.heap) A) 0 0 A := by
  induction n with
  | zero => intro X T hY hI hC hKk i hi hn; have := (hI.2.1 i hi).2; omega
  | succ n IH =>
    intro X T hY hI hC hKk i hi hn hnd hfl
    have hlen := (hC i hi).1
    refine zb_met (by decide) (Nat.le_of_ble_eq_true rfl) ?_
    intro p e s m args below meth c ls hx hb hr hml hown hts hlocks hnm hK hT ha_ hl
    have hown : s.vm.findClass RX4 = some m.cls := hown
    have hS : va_S A s.heap s.heap [] := va_S.rf
    have hl : lv_has ls 6 [(0, .ref (S.pa i)), (1, .int km), (2, .int (mFa se))] := hl
    refine lv_aload_n hx hb dX4_go_0 rfl (lv_at hl 0 rfl) ?_
    refine zt_get hx hb hts in_X4 hown hK.1 hT (hY.p hi) rfl 7 (by decide) (hts _ q396) (fun _ h => h) rfl dX4_go_1 ?_
    refine lv_istore_n (lv' := [(3, .int (X 6 i)), (0, .ref (S.pa i)), (1, .int km), (2, .int (mFa se))]) hx hb dX4_go_4 rfl hl (by decide) rfl (fun ls hl => ?_)
    refine lv_aload_n hx hb dX4_go_5 rfl (lv_at hl 1 rfl) ?_
    refine lv_dup hx hb dX4_go_6 rfl ?_
    refine zt_get hx hb hts in_X4 hown hK.1 hT (hY.p hi) rfl 7 (by decide) (hts _ q396) (fun _ h => h) rfl dX4_go_7 ?_
    refine lv_iload_n hx hb dX4_go_10 rfl (lv_at hl 2 rfl) ?_
    refine lv_iadd hx hb dX4_go_11 ?_
    refine zt_put hx hb hts in_X4 tyX4 tyX4_ok nmX4 hown hK.1 hT hS (hY.p hi) rfl 7 (by decide) (hts _ q396) (fun _ h => h) rfl (v := .int ((X 6 i) + km)) (tyX4_ok 7 (by decide)) rfl rfl (show 7 < 20 from by decide) dX4_go_12 (fun H locs hT hS => ?_)
    obtain ⟨T, hT, hY⟩ : ∃ T1, zTH g A T1 H ∧ zSy S g (zu X 6 i ((X 6 i) + km)) T1 := ⟨_, hT, hY.pw hi 6 ((X 6 i) + km) rfl (zpF_s S X 7 6 i _ (by decide))⟩
    refine lv_aload_n hx hb dX4_go_15 rfl (lv_at hl 1 rfl) ?_
    refine lv_dup hx hb dX4_go_16 rfl ?_
    refine zt_get hx hb hts in_X4 hown hK.1 hT (hY.p hi) rfl 8 (by decide) (hts _ q398) (fun _ h => h) rfl dX4_go_17 ?_
    refine zm_topi (y := X 7 i) (by simp [zu]) ?_
    refine lv_iload_n hx hb dX4_go_20 rfl (lv_at hl 2 rfl) ?_
    refine lv_iadd hx hb dX4_go_21 ?_
    refine zt_put hx hb hts in_X4 tyX4 tyX4_ok nmX4 hown hK.1 hT hS (hY.p hi) rfl 8 (by decide) (hts _ q398) (fun _ h => h) rfl (v := .int ((X 7 i) + km)) (tyX4_ok 8 (by decide)) rfl rfl (show 8 < 20 from by decide) dX4_go_22 (fun H locs hT hS => ?_)
    obtain ⟨T, hT, hY⟩ : ∃ T1, zTH g A T1 H ∧ zSy S g (zu (zu X 6 i ((X 6 i) + km)) 7 i ((X 7 i) + km)) T1 := ⟨_, hT, hY.pw hi 7 ((X 7 i) + km) rfl (zpF_s S (zu X 6 i ((X 6 i) + km)) 8 7 i _ (by decide))⟩
    refine lv_aload_n hx hb dX4_go_25 rfl (lv_at hl 1 rfl) ?_
    refine zt_get hx hb hts in_X4 hown hK.1 hT (hY.p hi) rfl 1 (by decide) (hts _ q384) (fun _ h => h) rfl dX4_go_26 ?_
    refine zm_topi (y := X 2 i) (by simp [zu]) ?_
    refine lv_iconst (v := 3) hx hb dX4_go_29 (by decide) ?_
    refine lv_icmp_ne (tgt := 96) hx hb dX4_go_30 (by decide) (fun c_1 => ?_) (fun c_1 => ?_)
    · have e2 : zu (zu X 6 i ((X 6 i) + km)) 7 i ((X 7 i) + km) = mGo2 X i km se := by
        unfold mGo2 mGo1
        rw [if_neg c_1]
      rw [e2] at hY
      have hi2 : i < mN (mGo2 X i km se) := by unfold mN; rw [mGo2_cg X i km se (by decide) (by decide) (by decide) (by decide) (by decide)]; exact hi
      refine lv_aload_n hx hb dX4_go_96 rfl (lv_at hl 1 rfl) ?_
      refine zt_get hx hb hts in_X4 hown hK.1 hT (hY.p hi2) rfl 7 (by decide) (hts _ q396) (fun _ h => h) rfl dX4_go_97 ?_
      refine zm_topi (y := X 6 i + km) (mGo2_6 X i km se) ?_
      refine lv_aload_n hx hb dX4_go_100 rfl (lv_at hl 1 rfl) ?_
      refine zt_get hx hb hts in_X4 hown hK.1 hT (hY.p hi2) rfl 13 (by decide) (hts _ q407) (fun _ h => h) rfl dX4_go_101 ?_
      refine zm_topi (y := X 19 i) (congrFun (mGo2_cg X i km se (by decide) (by decide) (by decide) (by decide) (by decide)) i) ?_
      refine lv_isub hx hb dX4_go_104 ?_
      refine lv_sipush (v := 500) hx hb dX4_go_105 (by decide) ?_
      refine lv_idiv hx hb dX4_go_108 (by decide) ?_
      refine lv_iload_n hx hb dX4_go_109 rfl (lv_at hl 0 rfl) ?_
      refine lv_aload_n hx hb dX4_go_110 rfl (lv_at hl 1 rfl) ?_
      refine zt_get hx hb hts in_X4 hown hK.1 hT (hY.p hi2) rfl 13 (by decide) (hts _ q407) (fun _ h => h) rfl dX4_go_111 ?_
      refine zm_topi (y := X 19 i) (congrFun (mGo2_cg X i km se (by decide) (by decide) (by decide) (by decide) (by decide)) i) ?_
      refine lv_isub hx hb dX4_go_114 ?_
      refine lv_sipush (v := 500) hx hb dX4_go_115 (by decide) ?_
      refine lv_idiv hx hb dX4_go_118 (by decide) ?_
      refine lv_isub hx hb dX4_go_119 ?_
      refine lv_istore (lv' := [(4, .int ((((X 6 i + km) - (X 19 i)) / 500) - (((X 6 i) - (X 19 i)) / 500))), (3, .int (X 6 i)), (0, .ref (S.pa i)), (1, .int km), (2, .int (mFa se))]) hx hb dX4_go_120 hl (by decide) rfl (fun ls hl => ?_)
      have hY : zSy S g (zu (mGo2 X i km se) 18 i (zgr (X 18 i) 0)) T := by rw [show zgr (X 18 i) 0 = mGo2 X i km se 18 i from (congrFun (mGo2_cg X i km se (by decide) (by decide) (by decide) (by decide) (by decide)) i).symm, zu_r _ _ _ _ rfl]; exact hY
      refine lv_iconst (v := 0) hx hb dX4_go_122 (by decide) ?_
      refine lv_istore (lv' := [(5, .int 0), (4, .int ((((X 6 i + km) - (X 19 i)) / 500) - (((X 6 i) - (X 19 i)) / 500))), (3, .int (X 6 i)), (0, .ref (S.pa i)), (1, .int km), (2, .int (mFa se))]) hx hb dX4_go_123 hl (by decide) rfl (fun ls hl => ?_)
      have L_3 : ∀ (n_2 : Nat) (j : Nat) (T : zT), ((mSt X i km).toNatClampNeg + 1 - j) < n_2 → (j ≤ (mSt X i km).toNatClampNeg) → (zSy S g (zu (mGo2 X i km se) 18 i (zgr (X 18 i) j)) T) → ∀ (H : Heap) (locs : List Loc) (ls : Array Slot), zTH g A T H → va_S A s.heap H locs → lv_has ls 6 [(5, .int (nI j)), (4, .int ((((X 6 i + km) - (X 19 i)) / 500) - (((X 6 i) - (X 19 i)) / 500))), (3, .int (X 6 i)), (0, .ref (S.pa i)), (1, .int km), (2, .int (mFa se))] → W p l e (zR (n + 1 + 6) 0 0) s m args below meth c H locs 0 0 (MQ below (va_Qv (fun (T1 : zT) => zSy S g (zgo S km se (n + 1) i X) T1) (fun T1 t => zTH g A T1 t.heap) A) args s 0 0 A) (F0 m 125 ls []) := by
        intro n_2
        induction n_2 with
        | zero => intro j T hm; exact absurd hm (Nat.not_lt_zero _)
        | succ n_2 ih =>
          intro j T hm hj hY H locs ls hT hS hl
          have ih_4 := ih
          have hcl := zcl (mSt X i km)
          refine lv_iload hx hb dX4_go_125 (lv_at hl 0 rfl) ?_
          refine lv_iload hx hb dX4_go_127 (lv_at hl 1 rfl) ?_
          refine lv_icmp_ge (tgt := 163) hx hb dX4_go_129 (by decide) (fun c_5 => ?_) (fun c_5 => ?_)
          · have hjj : (mSt X i km).toNatClampNeg = j := by
              by_cases z : X 18 i = 0
              · have z0 : mSt X i km = 0 := by unfold mSt; rw [if_pos z]
                rw [z0] at hj ⊢; exact (Nat.le_zero.mp hj).symm
              · exact zge_t hj (by unfold mSt; rw [if_neg z]; exact c_5)
            have hY : zSy S g (m_goes X i km se) T := by unfold m_goes; rw [hjj]; exact hY
            have hl : lv_has ls 6 [(3, .int (X 6 i)), (0, .ref (S.pa i)), (1, .int km), (2, .int (mFa se))] := lv_sub hl [2, 3, 4, 5] rfl
            refine lv_iconst (v := 0) hx hb dX4_go_163 (by decide) ?_
            refine lv_istore (lv' := [(5, .int 0), (3, .int (X 6 i)), (0, .ref (S.pa i)), (1, .int km), (2, .int (mFa se))]) hx hb dX4_go_164 hl (by decide) rfl (fun ls hl => ?_)
            have L_7 : ∀ (n_6 : Nat) (k : Nat) (T : zT), ((S.K i).length + 1 - k) < n_6 → (k ≤ (S.K i).length) → (zSy S g (((S.K i).take k).foldl (fun Y q => zgo S km se n q Y) (m_goes X i km se)) T) → ∀ (H : Heap) (locs : List Loc) (ls : Array Slot), zTH g A T H → va_S A s.heap H locs → lv_has ls 6 [(5, .int (nI k)), (0, .ref (S.pa i)), (1, .int km), (2, .int (mFa se))] → W p l e (zR (n + 1 + 6) 0 0) s m args below meth c H locs 0 0 (MQ below (va_Qv (fun (T1 : zT) => zSy S g (zgo S km se (n + 1) i X) T1) (fun T1 t => zTH g A T1 t.heap) A) args s 0 0 A) (F0 m 166 ls []) := by
              intro n_6
              induction n_6 with
              | zero => intro k T hm; exact absurd hm (Nat.not_lt_zero _)
              | succ n_6 ih =>
                intro k T hm hk hY H locs ls hT hS hl
                have ih_8 := ih
                obtain ⟨Y, eY⟩ : ∃ Y, Y = ((S.K i).take k).foldl (fun Y q => zgo S km se n q Y) (m_goes X i km se) := ⟨_, rfl⟩
                rw [← eY] at hY
                have hr1 : Y 1 = X 1 := by rw [eY, zfold_keep (S := S) (fun Y q => zgo_keep S km se (by decide) n q Y), m_goes_keep X i km se (by decide)]
                have hr2 : Y 2 = X 2 := by rw [eY, zfold_keep (S := S) (fun Y q => zgo_keep S km se (by decide) n q Y), m_goes_keep X i km se (by decide)]
                have hr5 : Y 5 = X 5 := by rw [eY, zfold_keep (S := S) (fun Y q => zgo_keep S km se (by decide) n q Y), m_goes_keep X i km se (by decide)]
                obtain ⟨hIy, hCy, hKy, hNy⟩ := zTr hr1 hr2 hr5 hI hC hKk
                have hiy : i < mN Y := by rw [hNy]; exact hi
                refine lv_iload hx hb dX4_go_166 (lv_at hl 0 rfl) ?_
                refine lv_aload_n hx hb dX4_go_168 rfl (lv_at hl 1 rfl) ?_
                refine zt_get hx hb hts in_X4 hown hK.1 hT (hY.p hiy) rfl 5 (by decide) (hts _ q392) (fun _ h => h) rfl dX4_go_169 ?_
                refine zc_i (zr_V (As := []) (rest := [.int (nI k)]) ⟨hx, hb, hml, hown, hts⟩ (ct_J2_size l g A T _ (S.mu (23 + 4 * i)) _ (hY.k hiy)) zn_J2_size (lw_V q560 q226 q227 q43 q228) rfl (by omega) (by decide) hK (fun _ h => h) hS hT (zt_recvL hK.1 hT (hY.k hiy)) rfl hl.1 (Nat.le_of_ble_eq_true rfl) dX4_go_172 ⟨by show _ + 0 ≤ _; omega, by show _ + 0 ≤ _; omega⟩) hS (fun _ h => h) (fun r _ H locs hr1 hT _ _ hS => ?_)
                subst hr1
                refine zm_topi (y := nI ((S.K i).length)) (by simp) ?_
                refine zl_ge (tgt := 201) (a := k) (b := (S.K i).length) hx hb (by first | decide | omega) (by first | decide | omega) dX4_go_175 (by decide) (fun c_9 => ?_) (fun c_9 => ?_)
                · exact ze_v hx hb hr hlocks hS dX4_go_201 (by show _ ≤ 0; omega) (by show _ ≤ 0; omega) T (by rw [eY, List.take_of_length_le (by omega)] at hY; exact hY) hT
                · refine lv_aload_n hx hb dX4_go_178 rfl (lv_at hl 1 rfl) ?_
                  refine zt_get hx hb hts in_X4 hown hK.1 hT (hY.p hiy) rfl 5 (by decide) (hts _ q392) (fun _ h => h) rfl dX4_go_179 ?_
                  refine lv_iload hx hb dX4_go_182 (lv_at hl 0 rfl) ?_
                  refine zc_q (zr_V (As := [.int (nI k)]) (rest := []) ⟨hx, hb, hml, hown, hts⟩ (ct_J2_get l g A T _ (S.mu (23 + 4 * i)) _ (hY.k hiy) k (by simpa using (show k < (S.K i).length from by omega))) zn_J2_get (lw_V q561 q235 q236 q43 q237) rfl (by omega) (by decide) hK (fun _ h => h) hS hT (zt_recvL hK.1 hT (hY.k hiy)) rfl hl.1 (Nat.le_of_ble_eq_true rfl) dX4_go_184 ⟨by show _ + 0 ≤ _; omega, by show _ + 0 ≤ _; omega⟩) hS (fun _ h => h) (fun r _ H locs hg_10 hT _ _ hS => ?_)
                  obtain ⟨q_11, hq_12, hm_13⟩ : ∃ q, (S.K i)[k]? = some q ∧ q < mN Y := ⟨_, List.getElem?_eq_getElem (by omega), (hCy _ hiy).2 _ (List.getElem_mem _)⟩
                  have hg_10r : r = some (S.pa q_11) := by rw [hg_10]; exact Option.some.inj ((List.getElem?_eq_getElem _).symm.trans (by rw [List.getElem?_map, hq_12]; rfl))
                  clear hg_10
                  subst hg_10r
                  refine zm_top (v' := .ref (S.pa q_11)) rfl ?_
                  refine va_castS hx hb hown (hts _ q555) (hK.1.1 3 _ rfl).2 (zt_recv hK.1 hT (hY.p hm_13) (r := zCl[3]) rfl) dX4_go_187 ?_
                  refine lv_iload_n hx hb dX4_go_190 rfl (lv_at hl 2 rfl) ?_
                  refine lv_iload_n hx hb dX4_go_191 rfl (lv_at hl 3 rfl) ?_
                  have hkid := zgo_kid (se := se) hnd hfl hq_12
                  rw [← eY] at hkid
                  refine zc_v (zr_V (As := [.int km, .int (mFa se)]) (rest := []) ⟨hx, hb, hml, hown, hts⟩ (IH Y _ hY hIy hCy hKy q_11 hm_13 (by have := hKy _ hiy _ (List.mem_of_getElem? hq_12); have z : mK Y i = mK X i := (by unfold mK; rw [hr2]); rw [z] at this; omega) hkid.1 hkid.2) zn_X4_go (lw_V q653 q650 q651 q54 q652) rfl (by omega) (by decide) hK (fun _ h => h) hS hT (zt_recv hK.1 hT (hY.p hm_13) rfl) rfl hl.1 (Nat.le_of_ble_eq_true rfl) dX4_go_192 ⟨by show _ + 0 ≤ _; omega, by show _ + 0 ≤ _; omega⟩) hS (fun _ h => h) (fun T H locs hY hT _ _ hS => ?_)
                  have hY2 : zSy S g (((S.K i).take (k + 1)).foldl (fun Y q => zgo S km se n q Y) (m_goes X i km se)) T := by rw [zft hq_12, ← eY]; exact hY
                  refine lv_iinc (v := nI (k + 1)) (lv' := [(5, .int (nI (k + 1))), (0, .ref (S.pa i)), (1, .int km), (2, .int (mFa se))]) hx hb dX4_go_195 hl (k := 0) rfl (nI_1 k) (by decide) rfl (fun ls hl => ?_)
                  refine lv_goto (tgt := 166) hx hb dX4_go_198 (by decide) ?_
                  exact ih_8 (k + 1) T (by omega) (by omega) hY2 _ _ _ hT hS (lv_sub hl [0, 1, 2, 3] rfl)
            exact L_7 (((S.K i).length + 1 - 0) + 1) 0 T (Nat.lt_succ_self _) (Nat.zero_le _) hY _ _ _ hT hS (lv_sub hl [0, 2, 3, 4] rfl)
          · refine lv_aload_n hx hb dX4_go_132 rfl (lv_at hl 3 rfl) ?_
            refine zt_get hx hb hts in_X4 hown hK.1 hT (hY.p hi2) rfl 12 (by decide) (hts _ q405) (fun _ h => h) rfl dX4_go_133 ?_
            refine zm_topi (y := zgr (X 18 i) j) (by simp [zu]) ?_
            refine lv_if_le (tgt := 163) hx hb dX4_go_136 (by decide) (fun c_14 => ?_) (fun c_14 => ?_)
            · have hjj : (mSt X i km).toNatClampNeg = j := by
                rcases hfl i (List.mem_cons_self ..) with z | z
                · have z0 : mSt X i km = 0 := by unfold mSt; rw [if_pos z]
                  rw [z0] at hj ⊢; exact (Nat.le_zero.mp hj).symm
                · exact absurd c_14 (z j hj)
              have hY : zSy S g (m_goes X i km se) T := by unfold m_goes; rw [hjj]; exact hY
              have hl : lv_has ls 6 [(3, .int (X 6 i)), (0, .ref (S.pa i)), (1, .int km), (2, .int (mFa se))] := lv_sub hl [2, 3, 4, 5] rfl
              refine lv_iconst (v := 0) hx hb dX4_go_163 (by decide) ?_
              refine lv_istore (lv' := [(5, .int 0), (3, .int (X 6 i)), (0, .ref (S.pa i)), (1, .int km), (2, .int (mFa se))]) hx hb dX4_go_164 hl (by decide) rfl (fun ls hl => ?_)
              have L_16 : ∀ (n_15 : Nat) (k : Nat) (T : zT), ((S.K i).length + 1 - k) < n_15 → (k ≤ (S.K i).length) → (zSy S g (((S.K i).take k).foldl (fun Y q => zgo S km se n q Y) (m_goes X i km se)) T) → ∀ (H : Heap) (locs : List Loc) (ls : Array Slot), zTH g A T H → va_S A s.heap H locs → lv_has ls 6 [(5, .int (nI k)), (0, .ref (S.pa i)), (1, .int km), (2, .int (mFa se))] → W p l e (zR (n + 1 + 6) 0 0) s m args below meth c H locs 0 0 (MQ below (va_Qv (fun (T1 : zT) => zSy S g (zgo S km se (n + 1) i X) T1) (fun T1 t => zTH g A T1 t.heap) A) args s 0 0 A) (F0 m 166 ls []) := by
                intro n_15
                induction n_15 with
                | zero => intro k T hm; exact absurd hm (Nat.not_lt_zero _)
                | succ n_15 ih =>
                  intro k T hm hk hY H locs ls hT hS hl
                  have ih_17 := ih
                  obtain ⟨Y, eY⟩ : ∃ Y, Y = ((S.K i).take k).foldl (fun Y q => zgo S km se n q Y) (m_goes X i km se) := ⟨_, rfl⟩
                  rw [← eY] at hY
                  have hr1 : Y 1 = X 1 := by rw [eY, zfold_keep (S := S) (fun Y q => zgo_keep S km se (by decide) n q Y), m_goes_keep X i km se (by decide)]
                  have hr2 : Y 2 = X 2 := by rw [eY, zfold_keep (S := S) (fun Y q => zgo_keep S km se (by decide) n q Y), m_goes_keep X i km se (by decide)]
                  have hr5 : Y 5 = X 5 := by rw [eY, zfold_keep (S := S) (fun Y q => zgo_keep S km se (by decide) n q Y), m_goes_keep X i km se (by decide)]
                  obtain ⟨hIy, hCy, hKy, hNy⟩ := zTr hr1 hr2 hr5 hI hC hKk
                  have hiy : i < mN Y := by rw [hNy]; exact hi
                  refine lv_iload hx hb dX4_go_166 (lv_at hl 0 rfl) ?_
                  refine lv_aload_n hx hb dX4_go_168 rfl (lv_at hl 1 rfl) ?_
                  refine zt_get hx hb hts in_X4 hown hK.1 hT (hY.p hiy) rfl 5 (by decide) (hts _ q392) (fun _ h => h) rfl dX4_go_169 ?_
                  refine zc_i (zr_V (As := []) (rest := [.int (nI k)]) ⟨hx, hb, hml, hown, hts⟩ (ct_J2_size l g A T _ (S.mu (23 + 4 * i)) _ (hY.k hiy)) zn_J2_size (lw_V q560 q226 q227 q43 q228) rfl (by omega) (by decide) hK (fun _ h => h) hS hT (zt_recvL hK.1 hT (hY.k hiy)) rfl hl.1 (Nat.le_of_ble_eq_true rfl) dX4_go_172 ⟨by show _ + 0 ≤ _; omega, by show _ + 0 ≤ _; omega⟩) hS (fun _ h => h) (fun r _ H locs hr1 hT _ _ hS => ?_)
                  subst hr1
                  refine zm_topi (y := nI ((S.K i).length)) (by simp) ?_
                  refine zl_ge (tgt := 201) (a := k) (b := (S.K i).length) hx hb (by first | decide | omega) (by first | decide | omega) dX4_go_175 (by decide) (fun c_18 => ?_) (fun c_18 => ?_)
                  · exact ze_v hx hb hr hlocks hS dX4_go_201 (by show _ ≤ 0; omega) (by show _ ≤ 0; omega) T (by rw [eY, List.take_of_length_le (by omega)] at hY; exact hY) hT
                  · refine lv_aload_n hx hb dX4_go_178 rfl (lv_at hl 1 rfl) ?_
                    refine zt_get hx hb hts in_X4 hown hK.1 hT (hY.p hiy) rfl 5 (by decide) (hts _ q392) (fun _ h => h) rfl dX4_go_179 ?_
                    refine lv_iload hx hb dX4_go_182 (lv_at hl 0 rfl) ?_
                    refine zc_q (zr_V (As := [.int (nI k)]) (rest := []) ⟨hx, hb, hml, hown, hts⟩ (ct_J2_get l g A T _ (S.mu (23 + 4 * i)) _ (hY.k hiy) k (by simpa using (show k < (S.K i).length from by omega))) zn_J2_get (lw_V q561 q235 q236 q43 q237) rfl (by omega) (by decide) hK (fun _ h => h) hS hT (zt_recvL hK.1 hT (hY.k hiy)) rfl hl.1 (Nat.le_of_ble_eq_true rfl) dX4_go_184 ⟨by show _ + 0 ≤ _; omega, by show _ + 0 ≤ _; omega⟩) hS (fun _ h => h) (fun r _ H locs hg_19 hT _ _ hS => ?_)
                    obtain ⟨q_20, hq_21, hm_22⟩ : ∃ q, (S.K i)[k]? = some q ∧ q < mN Y := ⟨_, List.getElem?_eq_getElem (by omega), (hCy _ hiy).2 _ (List.getElem_mem _)⟩
                    have hg_19r : r = some (S.pa q_20) := by rw [hg_19]; exact Option.some.inj ((List.getElem?_eq_getElem _).symm.trans (by rw [List.getElem?_map, hq_21]; rfl))
                    clear hg_19
                    subst hg_19r
                    refine zm_top (v' := .ref (S.pa q_20)) rfl ?_
                    refine va_castS hx hb hown (hts _ q555) (hK.1.1 3 _ rfl).2 (zt_recv hK.1 hT (hY.p hm_22) (r := zCl[3]) rfl) dX4_go_187 ?_
                    refine lv_iload_n hx hb dX4_go_190 rfl (lv_at hl 2 rfl) ?_
                    refine lv_iload_n hx hb dX4_go_191 rfl (lv_at hl 3 rfl) ?_
                    have hkid := zgo_kid (se := se) hnd hfl hq_21
                    rw [← eY] at hkid
                    refine zc_v (zr_V (As := [.int km, .int (mFa se)]) (rest := []) ⟨hx, hb, hml, hown, hts⟩ (IH Y _ hY hIy hCy hKy q_20 hm_22 (by have := hKy _ hiy _ (List.mem_of_getElem? hq_21); have z : mK Y i = mK X i := (by unfold mK; rw [hr2]); rw [z] at this; omega) hkid.1 hkid.2) zn_X4_go (lw_V q653 q650 q651 q54 q652) rfl (by omega) (by decide) hK (fun _ h => h) hS hT (zt_recv hK.1 hT (hY.p hm_22) rfl) rfl hl.1 (Nat.le_of_ble_eq_true rfl) dX4_go_192 ⟨by show _ + 0 ≤ _; omega, by show _ + 0 ≤ _; omega⟩) hS (fun _ h => h) (fun T H locs hY hT _ _ hS => ?_)
                    have hY2 : zSy S g (((S.K i).take (k + 1)).foldl (fun Y q => zgo S km se n q Y) (m_goes X i km se)) T := by rw [zft hq_21, ← eY]; exact hY
                    refine lv_iinc (v := nI (k + 1)) (lv' := [(5, .int (nI (k + 1))), (0, .ref (S.pa i)), (1, .int km), (2, .int (mFa se))]) hx hb dX4_go_195 hl (k := 0) rfl (nI_1 k) (by decide) rfl (fun ls hl => ?_)
                    refine lv_goto (tgt := 166) hx hb dX4_go_198 (by decide) ?_
                    exact ih_17 (k + 1) T (by omega) (by omega) hY2 _ _ _ hT hS (lv_sub hl [0, 1, 2, 3] rfl)
              exact L_16 (((S.K i).length + 1 - 0) + 1) 0 T (Nat.lt_succ_self _) (Nat.zero_le _) hY _ _ _ hT hS (lv_sub hl [0, 2, 3, 4] rfl)
            · refine lv_aload_n hx hb dX4_go_139 rfl (lv_at hl 3 rfl) ?_
              refine lv_dup hx hb dX4_go_140 rfl ?_
              refine zt_get hx hb hts in_X4 hown hK.1 hT (hY.p hi2) rfl 12 (by decide) (hts _ q405) (fun _ h => h) rfl dX4_go_141 ?_
              refine zm_topi (y := zgr (X 18 i) j) (by simp [zu]) ?_
              refine lv_iconst (v := 1) hx hb dX4_go_144 (by decide) ?_
              refine lv_aload_n hx hb dX4_go_145 rfl (lv_at hl 3 rfl) ?_
              refine zt_get hx hb hts in_X4 hown hK.1 hT (hY.p hi2) rfl 12 (by decide) (hts _ q405) (fun _ h => h) rfl dX4_go_146 ?_
              refine zm_topi (y := zgr (X 18 i) j) (by simp [zu]) ?_
              refine lv_bipush (v := 10) hx hb dX4_go_149 (by decide) ?_
              refine lv_idiv hx hb dX4_go_151 (by decide) ?_
              refine lv_iadd hx hb dX4_go_152 ?_
              refine lv_iadd hx hb dX4_go_153 ?_
              refine zt_put hx hb hts in_X4 tyX4 tyX4_ok nmX4 hown hK.1 hT hS (hY.p hi2) rfl 12 (by decide) (hts _ q405) (fun _ h => h) rfl (v := .int ((zgr (X 18 i) j) + (1 + ((zgr (X 18 i) j) / 10)))) (tyX4_ok 12 (by decide)) rfl rfl (show 12 < 20 from by decide) dX4_go_154 (fun H locs hT hS => ?_)
              obtain ⟨T, hT, hY⟩ : ∃ T1, zTH g A T1 H ∧ zSy S g (zu (zu (mGo2 X i km se) 18 i (zgr (X 18 i) j)) 18 i ((zgr (X 18 i) j) + (1 + ((zgr (X 18 i) j) / 10)))) T1 := ⟨_, hT, hY.pw hi2 18 ((zgr (X 18 i) j) + (1 + ((zgr (X 18 i) j) / 10))) rfl (zpF_s S (zu (mGo2 X i km se) 18 i (zgr (X 18 i) j)) 12 18 i _ (by decide))⟩
              have h18 : ¬ X 18 i = 0 := fun z => by
                have z0 : mSt X i km = 0 := by unfold mSt; rw [if_pos z]
                have z1 : j = 0 := by rw [z0] at hj; exact Nat.le_zero.mp hj
                rw [z1, z] at c_14; exact c_14 (by decide)
              have hst : mSt X i km = (X 6 i + km - X 19 i) / 500 - (X 6 i - X 19 i) / 500 := by unfold mSt; rw [if_neg h18]
              have hj2 : j + 1 ≤ (mSt X i km).toNatClampNeg := by have := zge_f (k := j) (by omega) c_5; rw [← hst] at this; exact this
              have hY : zSy S g (zu (mGo2 X i km se) 18 i (zgr (X 18 i) (j + 1))) T := by rw [show zu (mGo2 X i km se) 18 i (zgr (X 18 i) (j + 1)) = zu (zu (mGo2 X i km se) 18 i (zgr (X 18 i) j)) 18 i ((zgr (X 18 i) j) + (1 + ((zgr (X 18 i) j) / 10))) from (zu_zu _ _ _ _ _).symm]; exact hY
              refine lv_iinc (v := nI (j + 1)) (lv' := [(5, .int (nI (j + 1))), (4, .int ((((X 6 i + km) - (X 19 i)) / 500) - (((X 6 i) - (X 19 i)) / 500))), (3, .int (X 6 i)), (0, .ref (S.pa i)), (1, .int km), (2, .int (mFa se))]) hx hb dX4_go_157 hl (k := 0) rfl (nI_1 j) (by decide) rfl (fun ls hl => ?_)
              refine lv_goto (tgt := 125) hx hb dX4_go_160 (by decide) ?_
              exact ih_4 (j + 1) T (by omega) hj2 hY _ _ _ hT hS (lv_sub hl [0, 1, 2, 3, 4, 5] rfl)
      exact L_3 (((mSt X i km).toNatClampNeg + 1 - 0) + 1) 0 T (Nat.lt_succ_self _) (Nat.zero_le _) hY _ _ _ hT hS (lv_sub hl [0, 1, 2, 3, 4, 5] rfl)
    · refine lv_aload_n hx hb dX4_go_33 rfl (lv_at hl 1 rfl) ?_
      refine lv_dup hx hb dX4_go_34 rfl ?_
      refine zt_get hx hb hts in_X4 hown hK.1 hT (hY.p hi) rfl 14 (by decide) (hts _ q409) (fun _ h => h) rfl dX4_go_35 ?_
      refine zm_topi (y := X 13 i) (by simp [zu]) ?_
      refine lv_aload_n hx hb dX4_go_38 rfl (lv_at hl 1 rfl) ?_
      refine zt_get hx hb hts in_X4 hown hK.1 hT (hY.p hi) rfl 7 (by decide) (hts _ q396) (fun _ h => h) rfl dX4_go_39 ?_
      refine zm_topi (y := (X 6 i) + km) (by simp [zu]) ?_
      refine lv_bipush (v := 100) hx hb dX4_go_42 (by decide) ?_
      refine lv_idiv hx hb dX4_go_44 (by decide) ?_
      refine lv_iload_n hx hb dX4_go_45 rfl (lv_at hl 0 rfl) ?_
      refine lv_bipush (v := 100) hx hb dX4_go_46 (by decide) ?_
      refine lv_idiv hx hb dX4_go_48 (by decide) ?_
      refine lv_isub hx hb dX4_go_49 ?_
      refine lv_isub hx hb dX4_go_50 ?_
      refine zt_put hx hb hts in_X4 tyX4 tyX4_ok nmX4 hown hK.1 hT hS (hY.p hi) rfl 14 (by decide) (hts _ q409) (fun _ h => h) rfl (v := .int ((X 13 i) - ((((X 6 i) + km) / 100) - ((X 6 i) / 100)))) (tyX4_ok 14 (by decide)) rfl rfl (show 14 < 20 from by decide) dX4_go_51 (fun H locs hT hS => ?_)
      obtain ⟨T, hT, hY⟩ : ∃ T1, zTH g A T1 H ∧ zSy S g (zu (zu (zu X 6 i ((X 6 i) + km)) 7 i ((X 7 i) + km)) 13 i ((X 13 i) - ((((X 6 i) + km) / 100) - ((X 6 i) / 100)))) T1 := ⟨_, hT, hY.pw hi 13 ((X 13 i) - ((((X 6 i) + km) / 100) - ((X 6 i) / 100))) rfl (zpF_s S (zu (zu X 6 i ((X 6 i) + km)) 7 i ((X 7 i) + km)) 14 13 i _ (by decide))⟩
      refine lv_aload_n hx hb dX4_go_54 rfl (lv_at hl 1 rfl) ?_
      refine zt_get hx hb hts in_X4 hown hK.1 hT (hY.p hi) rfl 16 (by decide) (hts _ q413) (fun _ h => h) rfl dX4_go_55 ?_
      refine zm_topi (y := X 15 i) (by simp [zu]) ?_
      refine lv_istore (lv' := [(4, .int (X 15 i)), (3, .int (X 6 i)), (0, .ref (S.pa i)), (1, .int km), (2, .int (mFa se))]) hx hb dX4_go_58 hl (by decide) rfl (fun ls hl => ?_)
      refine lv_aload_n hx hb dX4_go_60 rfl (lv_at hl 2 rfl) ?_
      refine lv_dup hx hb dX4_go_61 rfl ?_
      refine zt_get hx hb hts in_X4 hown hK.1 hT (hY.p hi) rfl 16 (by decide) (hts _ q413) (fun _ h => h) rfl dX4_go_62 ?_
      refine zm_topi (y := X 15 i) (by simp [zu]) ?_
      refine lv_iload_n hx hb dX4_go_65 rfl (lv_at hl 3 rfl) ?_
      refine lv_iload_n hx hb dX4_go_66 rfl (lv_at hl 4 rfl) ?_
      refine lv_imul hx hb dX4_go_67 ?_
      refine lv_iadd hx hb dX4_go_68 ?_
      refine zt_put hx hb hts in_X4 tyX4 tyX4_ok nmX4 hown hK.1 hT hS (hY.p hi) rfl 16 (by decide) (hts _ q413) (fun _ h => h) rfl (v := .int ((X 15 i) + (km * (mFa se)))) (tyX4_ok 16 (by decide)) rfl rfl (show 16 < 20 from by decide) dX4_go_69 (fun H locs hT hS => ?_)
      obtain ⟨T, hT, hY⟩ : ∃ T1, zTH g A T1 H ∧ zSy S g (zu (zu (zu (zu X 6 i ((X 6 i) + km)) 7 i ((X 7 i) + km)) 13 i ((X 13 i) - ((((X 6 i) + km) / 100) - ((X 6 i) / 100)))) 15 i ((X 15 i) + (km * (mFa se)))) T1 := ⟨_, hT, hY.pw hi 15 ((X 15 i) + (km * (mFa se))) rfl (zpF_s S (zu (zu (zu X 6 i ((X 6 i) + km)) 7 i ((X 7 i) + km)) 13 i ((X 13 i) - ((((X 6 i) + km) / 100) - ((X 6 i) / 100)))) 16 15 i _ (by decide))⟩
      refine lv_aload_n hx hb dX4_go_72 rfl (lv_at hl 2 rfl) ?_
      refine lv_dup hx hb dX4_go_73 rfl ?_
      refine zt_get hx hb hts in_X4 hown hK.1 hT (hY.p hi) rfl 15 (by decide) (hts _ q411) (fun _ h => h) rfl dX4_go_74 ?_
      refine zm_topi (y := X 14 i) (by simp [zu]) ?_
      refine lv_aload_n hx hb dX4_go_77 rfl (lv_at hl 2 rfl) ?_
      refine zt_get hx hb hts in_X4 hown hK.1 hT (hY.p hi) rfl 16 (by decide) (hts _ q413) (fun _ h => h) rfl dX4_go_78 ?_
      refine zm_topi (y := (X 15 i) + (km * (mFa se))) (by simp [zu]) ?_
      refine lv_sipush (v := 200) hx hb dX4_go_81 (by decide) ?_
      refine lv_idiv hx hb dX4_go_84 (by decide) ?_
      refine lv_iload hx hb dX4_go_85 (lv_at hl 0 rfl) ?_
      refine lv_sipush (v := 200) hx hb dX4_go_87 (by decide) ?_
      refine lv_idiv hx hb dX4_go_90 (by decide) ?_
      refine lv_isub hx hb dX4_go_91 ?_
      refine lv_isub hx hb dX4_go_92 ?_
      refine zt_put hx hb hts in_X4 tyX4 tyX4_ok nmX4 hown hK.1 hT hS (hY.p hi) rfl 15 (by decide) (hts _ q411) (fun _ h => h) rfl (v := .int ((X 14 i) - ((((X 15 i) + (km * (mFa se))) / 200) - ((X 15 i) / 200)))) (tyX4_ok 15 (by decide)) rfl rfl (show 15 < 20 from by decide) dX4_go_93 (fun H locs hT hS => ?_)
      obtain ⟨T, hT, hY⟩ : ∃ T1, zTH g A T1 H ∧ zSy S g (zu (zu (zu (zu (zu X 6 i ((X 6 i) + km)) 7 i ((X 7 i) + km)) 13 i ((X 13 i) - ((((X 6 i) + km) / 100) - ((X 6 i) / 100)))) 15 i ((X 15 i) + (km * (mFa se)))) 14 i ((X 14 i) - ((((X 15 i) + (km * (mFa se))) / 200) - ((X 15 i) / 200)))) T1 := ⟨_, hT, hY.pw hi 14 ((X 14 i) - ((((X 15 i) + (km * (mFa se))) / 200) - ((X 15 i) / 200))) rfl (zpF_s S (zu (zu (zu (zu X 6 i ((X 6 i) + km)) 7 i ((X 7 i) + km)) 13 i ((X 13 i) - ((((X 6 i) + km) / 100) - ((X 6 i) / 100)))) 15 i ((X 15 i) + (km * (mFa se)))) 15 14 i _ (by decide))⟩
      have e2 : zu (zu (zu (zu (zu X 6 i ((X 6 i) + km)) 7 i ((X 7 i) + km)) 13 i ((X 13 i) - ((((X 6 i) + km) / 100) - ((X 6 i) / 100)))) 15 i ((X 15 i) + (km * (mFa se)))) 14 i ((X 14 i) - ((((X 15 i) + (km * (mFa se))) / 200) - ((X 15 i) / 200))) = mGo2 X i km se := by
        unfold mGo2 mGo1
        rw [if_pos c_1, zu_comm _ (show (13 : Nat) ≠ 15 by decide)]
      rw [e2] at hY
      have hl : lv_has ls 6 [(3, .int (X 6 i)), (0, .ref (S.pa i)), (1, .int km), (2, .int (mFa se))] := lv_sub hl [1, 2, 3, 4] rfl
      have hi2 : i < mN (mGo2 X i km se) := by unfold mN; rw [mGo2_cg X i km se (by decide) (by decide) (by decide) (by decide) (by decide)]; exact hi
      refine lv_aload_n hx hb dX4_go_96 rfl (lv_at hl 1 rfl) ?_
      refine zt_get hx hb hts in_X4 hown hK.1 hT (hY.p hi2) rfl 7 (by decide) (hts _ q396) (fun _ h => h) rfl dX4_go_97 ?_
      refine zm_topi (y := X 6 i + km) (mGo2_6 X i km se) ?_
      refine lv_aload_n hx hb dX4_go_100 rfl (lv_at hl 1 rfl) ?_
      refine zt_get hx hb hts in_X4 hown hK.1 hT (hY.p hi2) rfl 13 (by decide) (hts _ q407) (fun _ h => h) rfl dX4_go_101 ?_
      refine zm_topi (y := X 19 i) (congrFun (mGo2_cg X i km se (by decide) (by decide) (by decide) (by decide) (by decide)) i) ?_
      refine lv_isub hx hb dX4_go_104 ?_
      refine lv_sipush (v := 500) hx hb dX4_go_105 (by decide) ?_
      refine lv_idiv hx hb dX4_go_108 (by decide) ?_
      refine lv_iload_n hx hb dX4_go_109 rfl (lv_at hl 0 rfl) ?_
      refine lv_aload_n hx hb dX4_go_110 rfl (lv_at hl 1 rfl) ?_
      refine zt_get hx hb hts in_X4 hown hK.1 hT (hY.p hi2) rfl 13 (by decide) (hts _ q407) (fun _ h => h) rfl dX4_go_111 ?_
      refine zm_topi (y := X 19 i) (congrFun (mGo2_cg X i km se (by decide) (by decide) (by decide) (by decide) (by decide)) i) ?_
      refine lv_isub hx hb dX4_go_114 ?_
      refine lv_sipush (v := 500) hx hb dX4_go_115 (by decide) ?_
      refine lv_idiv hx hb dX4_go_118 (by decide) ?_
      refine lv_isub hx hb dX4_go_119 ?_
      refine lv_istore (lv' := [(4, .int ((((X 6 i + km) - (X 19 i)) / 500) - (((X 6 i) - (X 19 i)) / 500))), (3, .int (X 6 i)), (0, .ref (S.pa i)), (1, .int km), (2, .int (mFa se))]) hx hb dX4_go_120 hl (by decide) rfl (fun ls hl => ?_)
      have hY : zSy S g (zu (mGo2 X i km se) 18 i (zgr (X 18 i) 0)) T := by rw [show zgr (X 18 i) 0 = mGo2 X i km se 18 i from (congrFun (mGo2_cg X i km se (by decide) (by decide) (by decide) (by decide) (by decide)) i).symm, zu_r _ _ _ _ rfl]; exact hY
      refine lv_iconst (v := 0) hx hb dX4_go_122 (by decide) ?_
      refine lv_istore (lv' := [(5, .int 0), (4, .int ((((X 6 i + km) - (X 19 i)) / 500) - (((X 6 i) - (X 19 i)) / 500))), (3, .int (X 6 i)), (0, .ref (S.pa i)), (1, .int km), (2, .int (mFa se))]) hx hb dX4_go_123 hl (by decide) rfl (fun ls hl => ?_)
      have L_24 : ∀ (n_23 : Nat) (j : Nat) (T : zT), ((mSt X i km).toNatClampNeg + 1 - j) < n_23 → (j ≤ (mSt X i km).toNatClampNeg) → (zSy S g (zu (mGo2 X i km se) 18 i (zgr (X 18 i) j)) T) → ∀ (H : Heap) (locs : List Loc) (ls : Array Slot), zTH g A T H → va_S A s.heap H locs → lv_has ls 6 [(5, .int (nI j)), (4, .int ((((X 6 i + km) - (X 19 i)) / 500) - (((X 6 i) - (X 19 i)) / 500))), (3, .int (X 6 i)), (0, .ref (S.pa i)), (1, .int km), (2, .int (mFa se))] → W p l e (zR (n + 1 + 6) 0 0) s m args below meth c H locs 0 0 (MQ below (va_Qv (fun (T1 : zT) => zSy S g (zgo S km se (n + 1) i X) T1) (fun T1 t => zTH g A T1 t.heap) A) args s 0 0 A) (F0 m 125 ls []) := by
        intro n_23
        induction n_23 with
        | zero => intro j T hm; exact absurd hm (Nat.not_lt_zero _)
        | succ n_23 ih =>
          intro j T hm hj hY H locs ls hT hS hl
          have ih_25 := ih
          have hcl := zcl (mSt X i km)
          refine lv_iload hx hb dX4_go_125 (lv_at hl 0 rfl) ?_
          refine lv_iload hx hb dX4_go_127 (lv_at hl 1 rfl) ?_
          refine lv_icmp_ge (tgt := 163) hx hb dX4_go_129 (by decide) (fun c_26 => ?_) (fun c_26 => ?_)
          · have hjj : (mSt X i km).toNatClampNeg = j := by
              by_cases z : X 18 i = 0
              · have z0 : mSt X i km = 0 := by unfold mSt; rw [if_pos z]
                rw [z0] at hj ⊢; exact (Nat.le_zero.mp hj).symm
              · exact zge_t hj (by unfold mSt; rw [if_neg z]; exact c_26)
            have hY : zSy S g (m_goes X i km se) T := by unfold m_goes; rw [hjj]; exact hY
            have hl : lv_has ls 6 [(3, .int (X 6 i)), (0, .ref (S.pa i)), (1, .int km), (2, .int (mFa se))] := lv_sub hl [2, 3, 4, 5] rfl
            refine lv_iconst (v := 0) hx hb dX4_go_163 (by decide) ?_
            refine lv_istore (lv' := [(5, .int 0), (3, .int (X 6 i)), (0, .ref (S.pa i)), (1, .int km), (2, .int (mFa se))]) hx hb dX4_go_164 hl (by decide) rfl (fun ls hl => ?_)
            have L_28 : ∀ (n_27 : Nat) (k : Nat) (T : zT), ((S.K i).length + 1 - k) < n_27 → (k ≤ (S.K i).length) → (zSy S g (((S.K i).take k).foldl (fun Y q => zgo S km se n q Y) (m_goes X i km se)) T) → ∀ (H : Heap) (locs : List Loc) (ls : Array Slot), zTH g A T H → va_S A s.heap H locs → lv_has ls 6 [(5, .int (nI k)), (0, .ref (S.pa i)), (1, .int km), (2, .int (mFa se))] → W p l e (zR (n + 1 + 6) 0 0) s m args below meth c H locs 0 0 (MQ below (va_Qv (fun (T1 : zT) => zSy S g (zgo S km se (n + 1) i X) T1) (fun T1 t => zTH g A T1 t.heap) A) args s 0 0 A) (F0 m 166 ls []) := by
              intro n_27
              induction n_27 with
              | zero => intro k T hm; exact absurd hm (Nat.not_lt_zero _)
              | succ n_27 ih =>
                intro k T hm hk hY H locs ls hT hS hl
                have ih_29 := ih
                obtain ⟨Y, eY⟩ : ∃ Y, Y = ((S.K i).take k).foldl (fun Y q => zgo S km se n q Y) (m_goes X i km se) := ⟨_, rfl⟩
                rw [← eY] at hY
                have hr1 : Y 1 = X 1 := by rw [eY, zfold_keep (S := S) (fun Y q => zgo_keep S km se (by decide) n q Y), m_goes_keep X i km se (by decide)]
                have hr2 : Y 2 = X 2 := by rw [eY, zfold_keep (S := S) (fun Y q => zgo_keep S km se (by decide) n q Y), m_goes_keep X i km se (by decide)]
                have hr5 : Y 5 = X 5 := by rw [eY, zfold_keep (S := S) (fun Y q => zgo_keep S km se (by decide) n q Y), m_goes_keep X i km se (by decide)]
                obtain ⟨hIy, hCy, hKy, hNy⟩ := zTr hr1 hr2 hr5 hI hC hKk
                have hiy : i < mN Y := by rw [hNy]; exact hi
                refine lv_iload hx hb dX4_go_166 (lv_at hl 0 rfl) ?_
                refine lv_aload_n hx hb dX4_go_168 rfl (lv_at hl 1 rfl) ?_
                refine zt_get hx hb hts in_X4 hown hK.1 hT (hY.p hiy) rfl 5 (by decide) (hts _ q392) (fun _ h => h) rfl dX4_go_169 ?_
                refine zc_i (zr_V (As := []) (rest := [.int (nI k)]) ⟨hx, hb, hml, hown, hts⟩ (ct_J2_size l g A T _ (S.mu (23 + 4 * i)) _ (hY.k hiy)) zn_J2_size (lw_V q560 q226 q227 q43 q228) rfl (by omega) (by decide) hK (fun _ h => h) hS hT (zt_recvL hK.1 hT (hY.k hiy)) rfl hl.1 (Nat.le_of_ble_eq_true rfl) dX4_go_172 ⟨by show _ + 0 ≤ _; omega, by show _ + 0 ≤ _; omega⟩) hS (fun _ h => h) (fun r _ H locs hr1 hT _ _ hS => ?_)
                subst hr1
                refine zm_topi (y := nI ((S.K i).length)) (by simp) ?_
                refine zl_ge (tgt := 201) (a := k) (b := (S.K i).length) hx hb (by first | decide | omega) (by first | decide | omega) dX4_go_175 (by decide) (fun c_30 => ?_) (fun c_30 => ?_)
                · exact ze_v hx hb hr hlocks hS dX4_go_201 (by show _ ≤ 0; omega) (by show _ ≤ 0; omega) T (by rw [eY, List.take_of_length_le (by omega)] at hY; exact hY) hT
                · refine lv_aload_n hx hb dX4_go_178 rfl (lv_at hl 1 rfl) ?_
                  refine zt_get hx hb hts in_X4 hown hK.1 hT (hY.p hiy) rfl 5 (by decide) (hts _ q392) (fun _ h => h) rfl dX4_go_179 ?_
                  refine lv_iload hx hb dX4_go_182 (lv_at hl 0 rfl) ?_
                  refine zc_q (zr_V (As := [.int (nI k)]) (rest := []) ⟨hx, hb, hml, hown, hts⟩ (ct_J2_get l g A T _ (S.mu (23 + 4 * i)) _ (hY.k hiy) k (by simpa using (show k < (S.K i).length from by omega))) zn_J2_get (lw_V q561 q235 q236 q43 q237) rfl (by omega) (by decide) hK (fun _ h => h) hS hT (zt_recvL hK.1 hT (hY.k hiy)) rfl hl.1 (Nat.le_of_ble_eq_true rfl) dX4_go_184 ⟨by show _ + 0 ≤ _; omega, by show _ + 0 ≤ _; omega⟩) hS (fun _ h => h) (fun r _ H locs hg_31 hT _ _ hS => ?_)
                  obtain ⟨q_32, hq_33, hm_34⟩ : ∃ q, (S.K i)[k]? = some q ∧ q < mN Y := ⟨_, List.getElem?_eq_getElem (by omega), (hCy _ hiy).2 _ (List.getElem_mem _)⟩
                  have hg_31r : r = some (S.pa q_32) := by rw [hg_31]; exact Option.some.inj ((List.getElem?_eq_getElem _).symm.trans (by rw [List.getElem?_map, hq_33]; rfl))
                  clear hg_31
                  subst hg_31r
                  refine zm_top (v' := .ref (S.pa q_32)) rfl ?_
                  refine va_castS hx hb hown (hts _ q555) (hK.1.1 3 _ rfl).2 (zt_recv hK.1 hT (hY.p hm_34) (r := zCl[3]) rfl) dX4_go_187 ?_
                  refine lv_iload_n hx hb dX4_go_190 rfl (lv_at hl 2 rfl) ?_
                  refine lv_iload_n hx hb dX4_go_191 rfl (lv_at hl 3 rfl) ?_
                  have hkid := zgo_kid (se := se) hnd hfl hq_33
                  rw [← eY] at hkid
                  refine zc_v (zr_V (As := [.int km, .int (mFa se)]) (rest := []) ⟨hx, hb, hml, hown, hts⟩ (IH Y _ hY hIy hCy hKy q_32 hm_34 (by have := hKy _ hiy _ (List.mem_of_getElem? hq_33); have z : mK Y i = mK X i := (by unfold mK; rw [hr2]); rw [z] at this; omega) hkid.1 hkid.2) zn_X4_go (lw_V q653 q650 q651 q54 q652) rfl (by omega) (by decide) hK (fun _ h => h) hS hT (zt_recv hK.1 hT (hY.p hm_34) rfl) rfl hl.1 (Nat.le_of_ble_eq_true rfl) dX4_go_192 ⟨by show _ + 0 ≤ _; omega, by show _ + 0 ≤ _; omega⟩) hS (fun _ h => h) (fun T H locs hY hT _ _ hS => ?_)
                  have hY2 : zSy S g (((S.K i).take (k + 1)).foldl (fun Y q => zgo S km se n q Y) (m_goes X i km se)) T := by rw [zft hq_33, ← eY]; exact hY
                  refine lv_iinc (v := nI (k + 1)) (lv' := [(5, .int (nI (k + 1))), (0, .ref (S.pa i)), (1, .int km), (2, .int (mFa se))]) hx hb dX4_go_195 hl (k := 0) rfl (nI_1 k) (by decide) rfl (fun ls hl => ?_)
                  refine lv_goto (tgt := 166) hx hb dX4_go_198 (by decide) ?_
                  exact ih_29 (k + 1) T (by omega) (by omega) hY2 _ _ _ hT hS (lv_sub hl [0, 1, 2, 3] rfl)
            exact L_28 (((S.K i).length + 1 - 0) + 1) 0 T (Nat.lt_succ_self _) (Nat.zero_le _) hY _ _ _ hT hS (lv_sub hl [0, 2, 3, 4] rfl)
          · refine lv_aload_n hx hb dX4_go_132 rfl (lv_at hl 3 rfl) ?_
            refine zt_get hx hb hts in_X4 hown hK.1 hT (hY.p hi2) rfl 12 (by decide) (hts _ q405) (fun _ h => h) rfl dX4_go_133 ?_
            refine zm_topi (y := zgr (X 18 i) j) (by simp [zu]) ?_
            refine lv_if_le (tgt := 163) hx hb dX4_go_136 (by decide) (fun c_35 => ?_) (fun c_35 => ?_)
            · have hjj : (mSt X i km).toNatClampNeg = j := by
                rcases hfl i (List.mem_cons_self ..) with z | z
                · have z0 : mSt X i km = 0 := by unfold mSt; rw [if_pos z]
                  rw [z0] at hj ⊢; exact (Nat.le_zero.mp hj).symm
                · exact absurd c_35 (z j hj)
              have hY : zSy S g (m_goes X i km se) T := by unfold m_goes; rw [hjj]; exact hY
              have hl : lv_has ls 6 [(3, .int (X 6 i)), (0, .ref (S.pa i)), (1, .int km), (2, .int (mFa se))] := lv_sub hl [2, 3, 4, 5] rfl
              refine lv_iconst (v := 0) hx hb dX4_go_163 (by decide) ?_
              refine lv_istore (lv' := [(5, .int 0), (3, .int (X 6 i)), (0, .ref (S.pa i)), (1, .int km), (2, .int (mFa se))]) hx hb dX4_go_164 hl (by decide) rfl (fun ls hl => ?_)
              have L_37 : ∀ (n_36 : Nat) (k : Nat) (T : zT), ((S.K i).length + 1 - k) < n_36 → (k ≤ (S.K i).length) → (zSy S g (((S.K i).take k).foldl (fun Y q => zgo S km se n q Y) (m_goes X i km se)) T) → ∀ (H : Heap) (locs : List Loc) (ls : Array Slot), zTH g A T H → va_S A s.heap H locs → lv_has ls 6 [(5, .int (nI k)), (0, .ref (S.pa i)), (1, .int km), (2, .int (mFa se))] → W p l e (zR (n + 1 + 6) 0 0) s m args below meth c H locs 0 0 (MQ below (va_Qv (fun (T1 : zT) => zSy S g (zgo S km se (n + 1) i X) T1) (fun T1 t => zTH g A T1 t.heap) A) args s 0 0 A) (F0 m 166 ls []) := by
                intro n_36
                induction n_36 with
                | zero => intro k T hm; exact absurd hm (Nat.not_lt_zero _)
                | succ n_36 ih =>
                  intro k T hm hk hY H locs ls hT hS hl
                  have ih_38 := ih
                  obtain ⟨Y, eY⟩ : ∃ Y, Y = ((S.K i).take k).foldl (fun Y q => zgo S km se n q Y) (m_goes X i km se) := ⟨_, rfl⟩
                  rw [← eY] at hY
                  have hr1 : Y 1 = X 1 := by rw [eY, zfold_keep (S := S) (fun Y q => zgo_keep S km se (by decide) n q Y), m_goes_keep X i km se (by decide)]
                  have hr2 : Y 2 = X 2 := by rw [eY, zfold_keep (S := S) (fun Y q => zgo_keep S km se (by decide) n q Y), m_goes_keep X i km se (by decide)]
                  have hr5 : Y 5 = X 5 := by rw [eY, zfold_keep (S := S) (fun Y q => zgo_keep S km se (by decide) n q Y), m_goes_keep X i km se (by decide)]
                  obtain ⟨hIy, hCy, hKy, hNy⟩ := zTr hr1 hr2 hr5 hI hC hKk
                  have hiy : i < mN Y := by rw [hNy]; exact hi
                  refine lv_iload hx hb dX4_go_166 (lv_at hl 0 rfl) ?_
                  refine lv_aload_n hx hb dX4_go_168 rfl (lv_at hl 1 rfl) ?_
                  refine zt_get hx hb hts in_X4 hown hK.1 hT (hY.p hiy) rfl 5 (by decide) (hts _ q392) (fun _ h => h) rfl dX4_go_169 ?_
                  refine zc_i (zr_V (As := []) (rest := [.int (nI k)]) ⟨hx, hb, hml, hown, hts⟩ (ct_J2_size l g A T _ (S.mu (23 + 4 * i)) _ (hY.k hiy)) zn_J2_size (lw_V q560 q226 q227 q43 q228) rfl (by omega) (by decide) hK (fun _ h => h) hS hT (zt_recvL hK.1 hT (hY.k hiy)) rfl hl.1 (Nat.le_of_ble_eq_true rfl) dX4_go_172 ⟨by show _ + 0 ≤ _; omega, by show _ + 0 ≤ _; omega⟩) hS (fun _ h => h) (fun r _ H locs hr1 hT _ _ hS => ?_)
                  subst hr1
                  refine zm_topi (y := nI ((S.K i).length)) (by simp) ?_
                  refine zl_ge (tgt := 201) (a := k) (b := (S.K i).length) hx hb (by first | decide | omega) (by first | decide | omega) dX4_go_175 (by decide) (fun c_39 => ?_) (fun c_39 => ?_)
                  · exact ze_v hx hb hr hlocks hS dX4_go_201 (by show _ ≤ 0; omega) (by show _ ≤ 0; omega) T (by rw [eY, List.take_of_length_le (by omega)] at hY; exact hY) hT
                  · refine lv_aload_n hx hb dX4_go_178 rfl (lv_at hl 1 rfl) ?_
                    refine zt_get hx hb hts in_X4 hown hK.1 hT (hY.p hiy) rfl 5 (by decide) (hts _ q392) (fun _ h => h) rfl dX4_go_179 ?_
                    refine lv_iload hx hb dX4_go_182 (lv_at hl 0 rfl) ?_
                    refine zc_q (zr_V (As := [.int (nI k)]) (rest := []) ⟨hx, hb, hml, hown, hts⟩ (ct_J2_get l g A T _ (S.mu (23 + 4 * i)) _ (hY.k hiy) k (by simpa using (show k < (S.K i).length from by omega))) zn_J2_get (lw_V q561 q235 q236 q43 q237) rfl (by omega) (by decide) hK (fun _ h => h) hS hT (zt_recvL hK.1 hT (hY.k hiy)) rfl hl.1 (Nat.le_of_ble_eq_true rfl) dX4_go_184 ⟨by show _ + 0 ≤ _; omega, by show _ + 0 ≤ _; omega⟩) hS (fun _ h => h) (fun r _ H locs hg_40 hT _ _ hS => ?_)
                    obtain ⟨q_41, hq_42, hm_43⟩ : ∃ q, (S.K i)[k]? = some q ∧ q < mN Y := ⟨_, List.getElem?_eq_getElem (by omega), (hCy _ hiy).2 _ (List.getElem_mem _)⟩
                    have hg_40r : r = some (S.pa q_41) := by rw [hg_40]; exact Option.some.inj ((List.getElem?_eq_getElem _).symm.trans (by rw [List.getElem?_map, hq_42]; rfl))
                    clear hg_40
                    subst hg_40r
                    refine zm_top (v' := .ref (S.pa q_41)) rfl ?_
                    refine va_castS hx hb hown (hts _ q555) (hK.1.1 3 _ rfl).2 (zt_recv hK.1 hT (hY.p hm_43) (r := zCl[3]) rfl) dX4_go_187 ?_
                    refine lv_iload_n hx hb dX4_go_190 rfl (lv_at hl 2 rfl) ?_
                    refine lv_iload_n hx hb dX4_go_191 rfl (lv_at hl 3 rfl) ?_
                    have hkid := zgo_kid (se := se) hnd hfl hq_42
                    rw [← eY] at hkid
                    refine zc_v (zr_V (As := [.int km, .int (mFa se)]) (rest := []) ⟨hx, hb, hml, hown, hts⟩ (IH Y _ hY hIy hCy hKy q_41 hm_43 (by have := hKy _ hiy _ (List.mem_of_getElem? hq_42); have z : mK Y i = mK X i := (by unfold mK; rw [hr2]); rw [z] at this; omega) hkid.1 hkid.2) zn_X4_go (lw_V q653 q650 q651 q54 q652) rfl (by omega) (by decide) hK (fun _ h => h) hS hT (zt_recv hK.1 hT (hY.p hm_43) rfl) rfl hl.1 (Nat.le_of_ble_eq_true rfl) dX4_go_192 ⟨by show _ + 0 ≤ _; omega, by show _ + 0 ≤ _; omega⟩) hS (fun _ h => h) (fun T H locs hY hT _ _ hS => ?_)
                    have hY2 : zSy S g (((S.K i).take (k + 1)).foldl (fun Y q => zgo S km se n q Y) (m_goes X i km se)) T := by rw [zft hq_42, ← eY]; exact hY
                    refine lv_iinc (v := nI (k + 1)) (lv' := [(5, .int (nI (k + 1))), (0, .ref (S.pa i)), (1, .int km), (2, .int (mFa se))]) hx hb dX4_go_195 hl (k := 0) rfl (nI_1 k) (by decide) rfl (fun ls hl => ?_)
                    refine lv_goto (tgt := 166) hx hb dX4_go_198 (by decide) ?_
                    exact ih_38 (k + 1) T (by omega) (by omega) hY2 _ _ _ hT hS (lv_sub hl [0, 1, 2, 3] rfl)
              exact L_37 (((S.K i).length + 1 - 0) + 1) 0 T (Nat.lt_succ_self _) (Nat.zero_le _) hY _ _ _ hT hS (lv_sub hl [0, 2, 3, 4] rfl)
            · refine lv_aload_n hx hb dX4_go_139 rfl (lv_at hl 3 rfl) ?_
              refine lv_dup hx hb dX4_go_140 rfl ?_
              refine zt_get hx hb hts in_X4 hown hK.1 hT (hY.p hi2) rfl 12 (by decide) (hts _ q405) (fun _ h => h) rfl dX4_go_141 ?_
              refine zm_topi (y := zgr (X 18 i) j) (by simp [zu]) ?_
              refine lv_iconst (v := 1) hx hb dX4_go_144 (by decide) ?_
              refine lv_aload_n hx hb dX4_go_145 rfl (lv_at hl 3 rfl) ?_
              refine zt_get hx hb hts in_X4 hown hK.1 hT (hY.p hi2) rfl 12 (by decide) (hts _ q405) (fun _ h => h) rfl dX4_go_146 ?_
              refine zm_topi (y := zgr (X 18 i) j) (by simp [zu]) ?_
              refine lv_bipush (v := 10) hx hb dX4_go_149 (by decide) ?_
              refine lv_idiv hx hb dX4_go_151 (by decide) ?_
              refine lv_iadd hx hb dX4_go_152 ?_
              refine lv_iadd hx hb dX4_go_153 ?_
              refine zt_put hx hb hts in_X4 tyX4 tyX4_ok nmX4 hown hK.1 hT hS (hY.p hi2) rfl 12 (by decide) (hts _ q405) (fun _ h => h) rfl (v := .int ((zgr (X 18 i) j) + (1 + ((zgr (X 18 i) j) / 10)))) (tyX4_ok 12 (by decide)) rfl rfl (show 12 < 20 from by decide) dX4_go_154 (fun H locs hT hS => ?_)
              obtain ⟨T, hT, hY⟩ : ∃ T1, zTH g A T1 H ∧ zSy S g (zu (zu (mGo2 X i km se) 18 i (zgr (X 18 i) j)) 18 i ((zgr (X 18 i) j) + (1 + ((zgr (X 18 i) j) / 10)))) T1 := ⟨_, hT, hY.pw hi2 18 ((zgr (X 18 i) j) + (1 + ((zgr (X 18 i) j) / 10))) rfl (zpF_s S (zu (mGo2 X i km se) 18 i (zgr (X 18 i) j)) 12 18 i _ (by decide))⟩
              have h18 : ¬ X 18 i = 0 := fun z => by
                have z0 : mSt X i km = 0 := by unfold mSt; rw [if_pos z]
                have z1 : j = 0 := by rw [z0] at hj; exact Nat.le_zero.mp hj
                rw [z1, z] at c_35; exact c_35 (by decide)
              have hst : mSt X i km = (X 6 i + km - X 19 i) / 500 - (X 6 i - X 19 i) / 500 := by unfold mSt; rw [if_neg h18]
              have hj2 : j + 1 ≤ (mSt X i km).toNatClampNeg := by have := zge_f (k := j) (by omega) c_26; rw [← hst] at this; exact this
              have hY : zSy S g (zu (mGo2 X i km se) 18 i (zgr (X 18 i) (j + 1))) T := by rw [show zu (mGo2 X i km se) 18 i (zgr (X 18 i) (j + 1)) = zu (zu (mGo2 X i km se) 18 i (zgr (X 18 i) j)) 18 i ((zgr (X 18 i) j) + (1 + ((zgr (X 18 i) j) / 10))) from (zu_zu _ _ _ _ _).symm]; exact hY
              refine lv_iinc (v := nI (j + 1)) (lv' := [(5, .int (nI (j + 1))), (4, .int ((((X 6 i + km) - (X 19 i)) / 500) - (((X 6 i) - (X 19 i)) / 500))), (3, .int (X 6 i)), (0, .ref (S.pa i)), (1, .int km), (2, .int (mFa se))]) hx hb dX4_go_157 hl (k := 0) rfl (nI_1 j) (by decide) rfl (fun ls hl => ?_)
              refine lv_goto (tgt := 125) hx hb dX4_go_160 (by decide) ?_
              exact ih_25 (j + 1) T (by omega) hj2 hY _ _ _ hT hS (lv_sub hl [0, 1, 2, 3, 4, 5] rfl)
      exact L_24 (((mSt X i km).toNatClampNeg + 1 - 0) + 1) 0 T (Nat.lt_succ_self _) (Nat.zero_le _) hY _ _ _ hT hS (lv_sub hl [0, 1, 2, 3, 4, 5] rfl)
