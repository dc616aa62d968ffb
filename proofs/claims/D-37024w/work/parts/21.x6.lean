/-! THE REFERENCE's METHODS, 6: their contracts -/
theorem zn_X3_movesOf : zN yX3_movesOf 0 := by decide +kernel
set_option maxHeartbeats 4000000 in
theorem ct_X3_movesOf (l : Launch) (g : zG) (A : Nat → Prop) (mo : Nat) (ma : Nat → Nat) (X : zX) (hn60 : mN X ≤ 60) (hW : X 26 0 = nI (mW X) ∧ mW X ≤ 8) (hQ : MQw X) : Met l yX3_movesOf (ws_ yX3_movesOf cX3_movesOf 6 (some .int)) (zR 1 0 0) (zP [.ref mo] g A (zMX g A mo ma X)) (va_Qi (fun rz_ (_ : Unit) => rz_ = mMo X) (fun (_ : Unit) t => zMX g A mo ma X t.heap) A) 0 0 A := by
  refine zb_met (by decide) (Nat.le_of_ble_eq_true rfl) ?_
  intro p e s m args below meth c ls hx hb hr hml hown hts hlocks hnm hK hX ha hl
  have hown : s.vm.findClass RX3 = some m.cls := hown
  have hS : va_S A s.heap s.heap [] := va_S.rf
  have hl : lv_has ls 6 [(0, .ref mo)] := hl
  refine lv_iconst (v := 0) hx hb dX3_movesOf_0 (by decide) ?_
  refine lv_istore_n (lv' := [(1, .int 0), (0, .ref mo)]) hx hb dX3_movesOf_1 rfl hl (by decide) rfl (fun ls hl => ?_)
  refine lv_iconst (v := 0) hx hb dX3_movesOf_2 (by decide) ?_
  refine lv_istore_n (lv' := [(2, .int 0), (1, .int 0), (0, .ref mo)]) hx hb dX3_movesOf_3 rfl hl (by decide) rfl (fun ls hl => ?_)
  have L_2 : ∀ (n_1 : Nat) (a : Nat) (su : Nat), mW X + 1 - a < n_1 → (a ≤ mW X) → (zmo X (mW X - a) a su = mMo X) → ∀ (H : Heap) (locs : List Loc) (ls : Array Slot), zMX g A mo ma X H → va_S A s.heap H locs → lv_has ls 6 [(2, .int (nI a)), (1, .int (nI su)), (0, .ref mo)] → W p l e (zR 1 0 0) s m args below meth c H locs 0 0 (MQ below (va_Qi (fun rz_ (_ : Unit) => rz_ = mMo X) (fun (_ : Unit) t => zMX g A mo ma X t.heap) A) args s 0 0 A) (F0 m 4 ls []) := by
    intro n_1
    induction n_1 with
    | zero => intro a su hm; exact absurd hm (Nat.not_lt_zero _)
    | succ n_1 ih =>
      intro a su hm hal ho H locs ls hX hS hl
      have ih_3 := ih
      refine lv_iload_n hx hb dX3_movesOf_4 rfl (lv_at hl 0 rfl) ?_
      refine lv_aload_n hx hb dX3_movesOf_5 rfl (lv_at hl 2 rfl) ?_
      refine zx_get hx hb hown hts hK hX 26 (by decide) q1047 rfl rfl dX3_movesOf_6 ?_
      refine zm_topi (y := nI (mW X)) (hW.1) ?_
      refine zl_ge (tgt := 126) (a := a) (b := mW X) hx hb (by first | decide | omega) (by first | decide | omega) dX3_movesOf_9 (by decide) (fun c_4 => ?_) (fun c_4 => ?_)
      · refine lv_iload_n hx hb dX3_movesOf_126 rfl (lv_at hl 1 rfl) ?_
        have e1 : (nI su : Int32) = mMo X := by rw [← ho, show mW X - a = 0 by omega]; rfl
        exact ze_i hx hb hr hlocks hS dX3_movesOf_127 (Nat.le_refl _) (Nat.le_refl _) () e1 hX
      · refine lv_iconst (v := 0) hx hb dX3_movesOf_12 (by decide) ?_
        refine lv_istore_n (lv' := [(3, .int 0), (2, .int (nI a)), (1, .int (nI su)), (0, .ref mo)]) hx hb dX3_movesOf_13 rfl hl (by decide) rfl (fun ls hl => ?_)
        refine lv_iconst (v := 0) hx hb dX3_movesOf_14 (by decide) ?_
        refine lv_istore (lv' := [(4, .int 0), (3, .int 0), (2, .int (nI a)), (1, .int (nI su)), (0, .ref mo)]) hx hb dX3_movesOf_15 hl (by decide) rfl (fun ls hl => ?_)
        have L_6 : ∀ (n_5 : Nat) (b : Nat), mW X + 1 - b < n_5 → (b ≤ mW X) → ∀ (H : Heap) (locs : List Loc) (ls : Array Slot), zMX g A mo ma X H → va_S A s.heap H locs → lv_has ls 6 [(4, .int (nI b)), (3, .int (nI (zct (mSf X a) b))), (2, .int (nI a)), (1, .int (nI (su + zct (mTf X a) b))), (0, .ref mo)] → W p l e (zR 1 0 0) s m args below meth c H locs 0 0 (MQ below (va_Qi (fun rz_ (_ : Unit) => rz_ = mMo X) (fun (_ : Unit) t => zMX g A mo ma X t.heap) A) args s 0 0 A) (F0 m 17 ls []) := by
          intro n_5
          induction n_5 with
          | zero => intro b hm; exact absurd hm (Nat.not_lt_zero _)
          | succ n_5 ih =>
            intro b hm hbw H locs ls hX hS hl
            have ih_7 := ih
            refine lv_iload hx hb dX3_movesOf_17 (lv_at hl 0 rfl) ?_
            refine lv_aload_n hx hb dX3_movesOf_19 rfl (lv_at hl 4 rfl) ?_
            refine zx_get hx hb hown hts hK hX 26 (by decide) q1047 rfl rfl dX3_movesOf_20 ?_
            refine zm_topi (y := nI (mW X)) (hW.1) ?_
            refine zl_ge (tgt := 113) (a := b) (b := mW X) hx hb (by first | decide | omega) (by first | decide | omega) dX3_movesOf_23 (by decide) (fun c_8 => ?_) (fun c_8 => ?_)
            · obtain rfl : b = mW X := by omega
              refine lv_iload_n hx hb dX3_movesOf_113 rfl (lv_at hl 1 rfl) ?_
              refine lv_iconst (v := 4) hx hb dX3_movesOf_114 (by decide) ?_
              refine zl_le (tgt := 120) (a := zct (mSf X a) (mW X)) (b := 4) hx hb (Nat.lt_of_le_of_lt (zct_le _ _) (by omega)) (by first | decide | omega) dX3_movesOf_115 (by decide) (fun c_9 => ?_) (fun c_9 => ?_)
              · refine lv_iinc (v := nI (a + 1)) (lv' := [(2, .int (nI (a + 1))), (4, .int (nI (mW X))), (3, .int (nI (zct (mSf X a) (mW X)))), (1, .int (nI (su + zct (mTf X a) (mW X)))), (0, .ref mo)]) hx hb dX3_movesOf_120 hl (k := 2) rfl (nI_1 a) (by decide) rfl (fun ls hl => ?_)
                refine lv_goto (tgt := 4) hx hb dX3_movesOf_123 (by decide) ?_
                exact ih_3 (a + 1) (su + zct (mTf X a) (mW X)) (by omega) (by omega) (by rw [← ho, show mW X - a = (mW X - (a + 1)) + 1 by omega]; conv => rhs; unfold zmo; rw [if_neg (Nat.not_lt.mpr c_9)]) _ _ _ hX hS (lv_sub hl [0, 3, 4] rfl)
              · refine lv_iconst (v := (-1)) hx hb dX3_movesOf_118 (by decide) ?_
                have e1 : ((-1) : Int32) = mMo X := by rw [← ho, show mW X - a = (mW X - (a + 1)) + 1 by omega]; unfold zmo; rw [if_pos c_9]
                exact ze_i hx hb hr hlocks hS dX3_movesOf_119 (Nat.le_refl _) (Nat.le_refl _) () e1 hX
            · refine lv_aload_n hx hb dX3_movesOf_26 rfl (lv_at hl 4 rfl) ?_
              refine zx_get hx hb hown hts hK hX 30 (by decide) q1051 rfl rfl dX3_movesOf_27 ?_
              refine lv_iload_n hx hb dX3_movesOf_30 rfl (lv_at hl 2 rfl) ?_
              refine zx_ld (i := a) hx hb hK hX 30 rfl rfl (n := 8) rfl (by omega) dX3_movesOf_31 ?_
              refine lv_aload_n hx hb dX3_movesOf_32 rfl (lv_at hl 4 rfl) ?_
              refine zx_get hx hb hown hts hK hX 30 (by decide) q1051 rfl rfl dX3_movesOf_33 ?_
              refine lv_iload hx hb dX3_movesOf_36 (lv_at hl 0 rfl) ?_
              refine zx_ld (i := b) hx hb hK hX 30 rfl rfl (n := 8) rfl (by omega) dX3_movesOf_38 ?_
              refine lv_icmp_ne (tgt := 46) hx hb dX3_movesOf_39 (by decide) (fun c_10 => ?_) (fun c_10 => ?_)
              · refine lv_iconst (v := 0) hx hb dX3_movesOf_46 (by decide) ?_
                refine lv_istore (lv' := [(5, .int 0), (4, .int (nI b)), (3, .int (nI (zct (mSf X a) b))), (2, .int (nI a)), (1, .int (nI (su + zct (mTf X a) b))), (0, .ref mo)]) hx hb dX3_movesOf_47 hl (by decide) rfl (fun ls hl => ?_)
                refine lv_iload_n hx hb dX3_movesOf_49 rfl (lv_at hl 2 rfl) ?_
                refine lv_iload hx hb dX3_movesOf_50 (lv_at hl 0 rfl) ?_
                refine lv_if_eq (tgt := 59) hx hb dX3_movesOf_52 (by decide) (fun _ => ?_) (fun c_11 => absurd (by decide) c_11)
                refine lv_iconst (v := 0) hx hb dX3_movesOf_59 (by decide) ?_
                refine lv_iadd hx hb dX3_movesOf_60 ?_
                refine zm_topi (y := nI (zct (mSf X a) (b + 1))) (by simp [zct, mSf, nI_1, c_10]) ?_
                refine lv_istore_n (lv' := [(3, .int (nI (zct (mSf X a) (b + 1)))), (5, .int 0), (4, .int (nI b)), (2, .int (nI a)), (1, .int (nI (su + zct (mTf X a) b))), (0, .ref mo)]) hx hb dX3_movesOf_61 rfl hl (by decide) rfl (fun ls hl => ?_)
                refine lv_iload_n hx hb dX3_movesOf_62 rfl (lv_at hl 4 rfl) ?_
                refine lv_iload hx hb dX3_movesOf_63 (lv_at hl 1 rfl) ?_
                refine lv_if_eq (tgt := 104) hx hb dX3_movesOf_65 (by decide) (fun _ => ?_) (fun c_12 => absurd (by decide) c_12)
                refine lv_iconst (v := 0) hx hb dX3_movesOf_104 (by decide) ?_
                refine lv_iadd hx hb dX3_movesOf_105 ?_
                refine zm_topi (y := nI (su + zct (mTf X a) (b + 1))) (by rw [show zct (mTf X a) (b + 1) = zct (mTf X a) b from by simp [zct, mTf, mSf, c_10]]; exact Int32.add_zero _) ?_
                refine lv_istore_n (lv' := [(1, .int (nI (su + zct (mTf X a) (b + 1)))), (3, .int (nI (zct (mSf X a) (b + 1)))), (5, .int 0), (4, .int (nI b)), (2, .int (nI a)), (0, .ref mo)]) hx hb dX3_movesOf_106 rfl hl (by decide) rfl (fun ls hl => ?_)
                refine lv_iinc (v := nI (b + 1)) (lv' := [(4, .int (nI (b + 1))), (1, .int (nI (su + zct (mTf X a) (b + 1)))), (3, .int (nI (zct (mSf X a) (b + 1)))), (5, .int 0), (2, .int (nI a)), (0, .ref mo)]) hx hb dX3_movesOf_107 hl (k := 3) rfl (nI_1 b) (by decide) rfl (fun ls hl => ?_)
                refine lv_goto (tgt := 17) hx hb dX3_movesOf_110 (by decide) ?_
                exact ih_7 (b + 1) (by omega) (by omega) _ _ _ hX hS (lv_sub hl [0, 2, 4, 1, 5] rfl)
              · refine lv_iconst (v := 1) hx hb dX3_movesOf_42 (by decide) ?_
                refine lv_goto (tgt := 47) hx hb dX3_movesOf_43 (by decide) ?_
                refine lv_istore (lv' := [(5, .int 1), (4, .int (nI b)), (3, .int (nI (zct (mSf X a) b))), (2, .int (nI a)), (1, .int (nI (su + zct (mTf X a) b))), (0, .ref mo)]) hx hb dX3_movesOf_47 hl (by decide) rfl (fun ls hl => ?_)
                refine lv_iload_n hx hb dX3_movesOf_49 rfl (lv_at hl 2 rfl) ?_
                refine lv_iload hx hb dX3_movesOf_50 (lv_at hl 0 rfl) ?_
                refine lv_if_eq (tgt := 59) hx hb dX3_movesOf_52 (by decide) (fun c_13 => absurd c_13 (by decide)) (fun _ => ?_)
                refine lv_iconst (v := 1) hx hb dX3_movesOf_55 (by decide) ?_
                refine lv_goto (tgt := 60) hx hb dX3_movesOf_56 (by decide) ?_
                refine lv_iadd hx hb dX3_movesOf_60 ?_
                refine zm_topi (y := nI (zct (mSf X a) b + 1)) (nI_1 (zct (mSf X a) b)) ?_
                refine zm_topi (y := nI (zct (mSf X a) (b + 1))) (by simp [zct, mSf, nI_1, c_10]) ?_
                refine lv_istore_n (lv' := [(3, .int (nI (zct (mSf X a) (b + 1)))), (5, .int 1), (4, .int (nI b)), (2, .int (nI a)), (1, .int (nI (su + zct (mTf X a) b))), (0, .ref mo)]) hx hb dX3_movesOf_61 rfl hl (by decide) rfl (fun ls hl => ?_)
                refine lv_iload_n hx hb dX3_movesOf_62 rfl (lv_at hl 4 rfl) ?_
                refine lv_iload hx hb dX3_movesOf_63 (lv_at hl 1 rfl) ?_
                refine lv_if_eq (tgt := 104) hx hb dX3_movesOf_65 (by decide) (fun c_14 => absurd c_14 (by decide)) (fun _ => ?_)
                refine lv_iload hx hb dX3_movesOf_68 (lv_at hl 2 rfl) ?_
                refine lv_iload_n hx hb dX3_movesOf_70 rfl (lv_at hl 3 rfl) ?_
                refine zl_le (tgt := 104) (a := b) (b := a) hx hb (by first | decide | omega) (by first | decide | omega) dX3_movesOf_71 (by decide) (fun c_15 => ?_) (fun c_15 => ?_)
                · refine lv_iconst (v := 0) hx hb dX3_movesOf_104 (by decide) ?_
                  refine lv_iadd hx hb dX3_movesOf_105 ?_
                  refine zm_topi (y := nI (su + zct (mTf X a) (b + 1))) (by rw [show zct (mTf X a) (b + 1) = zct (mTf X a) b from by simp [zct, mTf, mSf, c_10, Nat.not_lt.mpr c_15]]; exact Int32.add_zero _) ?_
                  refine lv_istore_n (lv' := [(1, .int (nI (su + zct (mTf X a) (b + 1)))), (3, .int (nI (zct (mSf X a) (b + 1)))), (5, .int 1), (4, .int (nI b)), (2, .int (nI a)), (0, .ref mo)]) hx hb dX3_movesOf_106 rfl hl (by decide) rfl (fun ls hl => ?_)
                  refine lv_iinc (v := nI (b + 1)) (lv' := [(4, .int (nI (b + 1))), (1, .int (nI (su + zct (mTf X a) (b + 1)))), (3, .int (nI (zct (mSf X a) (b + 1)))), (5, .int 1), (2, .int (nI a)), (0, .ref mo)]) hx hb dX3_movesOf_107 hl (k := 3) rfl (nI_1 b) (by decide) rfl (fun ls hl => ?_)
                  refine lv_goto (tgt := 17) hx hb dX3_movesOf_110 (by decide) ?_
                  exact ih_7 (b + 1) (by omega) (by omega) _ _ _ hX hS (lv_sub hl [0, 2, 4, 1, 5] rfl)
                · refine lv_aload_n hx hb dX3_movesOf_74 rfl (lv_at hl 5 rfl) ?_
                  refine zx_get hx hb hown hts hK hX 28 (by decide) q1049 rfl rfl dX3_movesOf_75 ?_
                  refine lv_aload_n hx hb dX3_movesOf_78 rfl (lv_at hl 5 rfl) ?_
                  refine zx_get hx hb hown hts hK hX 27 (by decide) q1048 rfl rfl dX3_movesOf_79 ?_
                  refine lv_iload_n hx hb dX3_movesOf_82 rfl (lv_at hl 3 rfl) ?_
                  refine zx_ld (i := a) hx hb hK hX 27 rfl rfl (n := 8) rfl (by omega) dX3_movesOf_83 ?_
                  refine zm_topi (hQ a (by omega)).1 ?_
                  have hwa := (hQ a (by omega)).2
                  refine zx_ld (i := mWt X a) hx hb hK hX 28 rfl rfl (n := 60) rfl (by omega) dX3_movesOf_84 ?_
                  refine lv_aload_n hx hb dX3_movesOf_85 rfl (lv_at hl 5 rfl) ?_
                  refine zx_get hx hb hown hts hK hX 28 (by decide) q1049 rfl rfl dX3_movesOf_86 ?_
                  refine lv_aload_n hx hb dX3_movesOf_89 rfl (lv_at hl 5 rfl) ?_
                  refine zx_get hx hb hown hts hK hX 27 (by decide) q1048 rfl rfl dX3_movesOf_90 ?_
                  refine lv_iload hx hb dX3_movesOf_93 (lv_at hl 2 rfl) ?_
                  refine zx_ld (i := b) hx hb hK hX 27 rfl rfl (n := 8) rfl (by omega) dX3_movesOf_95 ?_
                  refine zm_topi (hQ b (by omega)).1 ?_
                  have hwb := (hQ b (by omega)).2
                  refine zx_ld (i := mWt X b) hx hb hK hX 28 rfl rfl (n := 60) rfl (by omega) dX3_movesOf_96 ?_
                  refine lv_icmp_ge (tgt := 104) hx hb dX3_movesOf_97 (by decide) (fun c_16 => ?_) (fun c_16 => ?_)
                  · refine lv_iconst (v := 0) hx hb dX3_movesOf_104 (by decide) ?_
                    refine lv_iadd hx hb dX3_movesOf_105 ?_
                    refine zm_topi (y := nI (su + zct (mTf X a) (b + 1))) (by rw [show zct (mTf X a) (b + 1) = zct (mTf X a) b from by simp [zct, mTf, mSf, c_10, c_15, c_16]]; exact Int32.add_zero _) ?_
                    refine lv_istore_n (lv' := [(1, .int (nI (su + zct (mTf X a) (b + 1)))), (3, .int (nI (zct (mSf X a) (b + 1)))), (5, .int 1), (4, .int (nI b)), (2, .int (nI a)), (0, .ref mo)]) hx hb dX3_movesOf_106 rfl hl (by decide) rfl (fun ls hl => ?_)
                    refine lv_iinc (v := nI (b + 1)) (lv' := [(4, .int (nI (b + 1))), (1, .int (nI (su + zct (mTf X a) (b + 1)))), (3, .int (nI (zct (mSf X a) (b + 1)))), (5, .int 1), (2, .int (nI a)), (0, .ref mo)]) hx hb dX3_movesOf_107 hl (k := 3) rfl (nI_1 b) (by decide) rfl (fun ls hl => ?_)
                    refine lv_goto (tgt := 17) hx hb dX3_movesOf_110 (by decide) ?_
                    exact ih_7 (b + 1) (by omega) (by omega) _ _ _ hX hS (lv_sub hl [0, 2, 4, 1, 5] rfl)
                  · refine lv_iconst (v := 1) hx hb dX3_movesOf_100 (by decide) ?_
                    refine lv_goto (tgt := 105) hx hb dX3_movesOf_101 (by decide) ?_
                    refine lv_iadd hx hb dX3_movesOf_105 ?_
                    refine zm_topi (y := nI (su + zct (mTf X a) b + 1)) (nI_1 (su + zct (mTf X a) b)) ?_
                    refine zm_topi (y := nI (su + zct (mTf X a) (b + 1))) (by rw [show zct (mTf X a) (b + 1) = zct (mTf X a) b + 1 from by simp [zct, mTf, mSf, c_10, c_15, c_16]]; rfl) ?_
                    refine lv_istore_n (lv' := [(1, .int (nI (su + zct (mTf X a) (b + 1)))), (3, .int (nI (zct (mSf X a) (b + 1)))), (5, .int 1), (4, .int (nI b)), (2, .int (nI a)), (0, .ref mo)]) hx hb dX3_movesOf_106 rfl hl (by decide) rfl (fun ls hl => ?_)
                    refine lv_iinc (v := nI (b + 1)) (lv' := [(4, .int (nI (b + 1))), (1, .int (nI (su + zct (mTf X a) (b + 1)))), (3, .int (nI (zct (mSf X a) (b + 1)))), (5, .int 1), (2, .int (nI a)), (0, .ref mo)]) hx hb dX3_movesOf_107 hl (k := 3) rfl (nI_1 b) (by decide) rfl (fun ls hl => ?_)
                    refine lv_goto (tgt := 17) hx hb dX3_movesOf_110 (by decide) ?_
                    exact ih_7 (b + 1) (by omega) (by omega) _ _ _ hX hS (lv_sub hl [0, 2, 4, 1, 5] rfl)
        exact L_6 ((mW X + 1 - 0) + 1) 0 (Nat.lt_succ_self _) (by omega) _ _ _ hX hS (lv_sub hl [0, 1, 2, 3, 4] rfl)
  exact L_2 ((mW X + 1 - 0) + 1) 0 0 (Nat.lt_succ_self _) (Nat.zero_le _) rfl _ _ _ hX hS (lv_sub hl [0, 1, 2] rfl)
theorem zn_X3_plans : zN yX3_plans 0 := by decide +kernel
set_option maxHeartbeats 4000000 in
theorem ct_X3_plans (l : Launch) (g : zG) (A : Nat → Prop) (mo : Nat) (ma : Nat → Nat) (X : zX) (hn60 : mN X ≤ 60) (hW : X 26 0 = nI (mW X) ∧ mW X ≤ 8) (hQ : MQw X) : Met l yX3_plans (ws_ yX3_plans cX3_plans 7 (some .int)) (zR 2 0 0) (zP [.ref mo] g A (zMX g A mo ma X)) (va_Qi (fun rz_ (_ : Unit) => rz_ = (m_plans X).1) (fun (_ : Unit) t => zMX g A mo ma ((m_plans X).2) t.heap) A) 0 0 A := by
  refine zb_met (by decide) (Nat.le_of_ble_eq_true rfl) ?_
  intro p e s m args below meth c ls hx hb hr hml hown hts hlocks hnm hK hX ha hl
  have hown : s.vm.findClass RX3 = some m.cls := hown
  have hS : va_S A s.heap s.heap [] := va_S.rf
  have hl : lv_has ls 7 [(0, .ref mo)] := hl
  refine lv_iconst (v := 1) hx hb dX3_plans_0 (by decide) ?_
  refine lv_istore_n (lv' := [(1, .int 1), (0, .ref mo)]) hx hb dX3_plans_1 rfl hl (by decide) rfl (fun ls hl => ?_)
  refine lv_iconst (v := 0) hx hb dX3_plans_2 (by decide) ?_
  refine lv_istore_n (lv' := [(2, .int 0), (1, .int 1), (0, .ref mo)]) hx hb dX3_plans_3 rfl hl (by decide) rfl (fun ls hl => ?_)
  have L_2 : ∀ (n_1 : Nat) (j : Nat), mW X + 1 - j < n_1 → (j ≤ mW X) → ∀ (H : Heap) (locs : List Loc) (ls : Array Slot), zMX g A mo ma X H → va_S A s.heap H locs → lv_has ls 7 [(2, .int (nI j)), (1, .int (nI (3 ^ j))), (0, .ref mo)] → W p l e (zR 2 0 0) s m args below meth c H locs 0 0 (MQ below (va_Qi (fun rz_ (_ : Unit) => rz_ = (m_plans X).1) (fun (_ : Unit) t => zMX g A mo ma ((m_plans X).2) t.heap) A) args s 0 0 A) (F0 m 4 ls []) := by
    intro n_1
    induction n_1 with
    | zero => intro j hm; exact absurd hm (Nat.not_lt_zero _)
    | succ n_1 ih =>
      intro j hm hj H locs ls hX hS hl
      have ih_3 := ih
      refine lv_iload_n hx hb dX3_plans_4 rfl (lv_at hl 0 rfl) ?_
      refine lv_aload_n hx hb dX3_plans_5 rfl (lv_at hl 2 rfl) ?_
      refine zx_get hx hb hown hts hK hX 26 (by decide) q1047 rfl rfl dX3_plans_6 ?_
      refine zm_topi (y := nI (mW X)) (hW.1) ?_
      refine zl_ge (tgt := 22) (a := j) (b := mW X) hx hb (by first | decide | omega) (by first | decide | omega) dX3_plans_9 (by decide) (fun c_4 => ?_) (fun c_4 => ?_)
      · obtain rfl : j = mW X := by omega
        have h3 : 3 ^ mW X ≤ 6561 := Nat.pow_le_pow_right (by decide) hW.2
        refine lv_iconst (v := (-1)) hx hb dX3_plans_22 (by decide) ?_
        refine lv_istore_n (lv' := [(2, .int (-1)), (1, .int (nI (3 ^ (mW X)))), (0, .ref mo)]) hx hb dX3_plans_23 rfl hl (by decide) rfl (fun ls hl => ?_)
        refine lv_iconst (v := 0) hx hb dX3_plans_24 (by decide) ?_
        refine lv_istore_n (lv' := [(3, .int 0), (2, .int (-1)), (1, .int (nI (3 ^ (mW X)))), (0, .ref mo)]) hx hb dX3_plans_25 rfl hl (by decide) rfl (fun ls hl => ?_)
        have L_6 : ∀ (n_5 : Nat) (w : Nat), 3 ^ mW X + 1 - w < n_5 → (w ≤ 3 ^ mW X) → ∀ (H : Heap) (locs : List Loc) (ls : Array Slot), zMX g A mo ma ((mPs X w).2) H → va_S A s.heap H locs → lv_has ls 7 [(3, .int (nI w)), (2, .int ((mPs X w).1)), (1, .int (nI (3 ^ mW X))), (0, .ref mo)] → W p l e (zR 2 0 0) s m args below meth c H locs 0 0 (MQ below (va_Qi (fun rz_ (_ : Unit) => rz_ = (m_plans X).1) (fun (_ : Unit) t => zMX g A mo ma ((m_plans X).2) t.heap) A) args s 0 0 A) (F0 m 26 ls []) := by
          intro n_5
          induction n_5 with
          | zero => intro w hm; exact absurd hm (Nat.not_lt_zero _)
          | succ n_5 ih =>
            intro w hm hw H locs ls hX hS hl
            have ih_7 := ih
            refine lv_iload_n hx hb dX3_plans_26 rfl (lv_at hl 0 rfl) ?_
            refine lv_iload_n hx hb dX3_plans_27 rfl (lv_at hl 2 rfl) ?_
            refine zl_ge (tgt := 134) (a := w) (b := 3 ^ mW X) hx hb (by first | decide | omega) (Nat.lt_of_le_of_lt h3 (by decide)) dX3_plans_28 (by decide) (fun c_8 => ?_) (fun c_8 => ?_)
            · refine lv_iload_n hx hb dX3_plans_134 rfl (lv_at hl 1 rfl) ?_
              have e1 : ((mPs X w).1 : Int32) = (m_plans X).1 := by have hw9 : w = 3 ^ mW X := (by omega); subst hw9; rfl
              have e2 : (mPs X w).2 = (m_plans X).2 := by have hw9 : w = 3 ^ mW X := (by omega); subst hw9; rfl
              rw [e2] at hX
              exact ze_i hx hb hr hlocks hS dX3_plans_135 (Nat.le_refl _) (Nat.le_refl _) () e1 hX
            · refine lv_iload_n hx hb dX3_plans_31 rfl (lv_at hl 0 rfl) ?_
              refine lv_istore (lv' := [(4, .int (nI w)), (3, .int (nI w)), (2, .int ((mPs X w).1)), (1, .int (nI (3 ^ mW X))), (0, .ref mo)]) hx hb dX3_plans_32 hl (by decide) rfl (fun ls hl => ?_)
              refine lv_aload_n hx hb dX3_plans_34 rfl (lv_at hl 4 rfl) ?_
              refine zx_get hx hb hown hts hK hX 26 (by decide) q1047 rfl rfl dX3_plans_35 ?_
              refine zm_topi (y := nI (mW X)) ((by rw [mPs_pr X w 26 (by decide) (by decide)]; exact hW.1)) ?_
              refine lv_iconst (v := 1) hx hb dX3_plans_38 (by decide) ?_
              refine lv_isub hx hb dX3_plans_39 ?_
              refine lv_istore (lv' := [(5, .int ((nI (mW X)) - 1)), (4, .int (nI w)), (3, .int (nI w)), (2, .int ((mPs X w).1)), (1, .int (nI (3 ^ mW X))), (0, .ref mo)]) hx hb dX3_plans_40 hl (by decide) rfl (fun ls hl => ?_)
              have L_10 : ∀ (n_9 : Nat) (k : Nat) (dl : Nat) (Y : zX), k + 1 < n_9 → (k ≤ mW X) → (dl < 2 ^ 31) → (zdg k Y dl = zdg (mW X) (mPs X w).2 w) → (zPr X Y) → ∀ (H : Heap) (locs : List Loc) (ls : Array Slot), zMX g A mo ma Y H → va_S A s.heap H locs → lv_has ls 7 [(5, .int (nI k - 1)), (4, .int (nI dl)), (3, .int (nI w)), (2, .int ((mPs X w).1)), (1, .int (nI (3 ^ mW X))), (0, .ref mo)] → W p l e (zR 2 0 0) s m args below meth c H locs 0 0 (MQ below (va_Qi (fun rz_ (_ : Unit) => rz_ = (m_plans X).1) (fun (_ : Unit) t => zMX g A mo ma ((m_plans X).2) t.heap) A) args s 0 0 A) (F0 m 42 ls []) := by
                intro n_9
                induction n_9 with
                | zero => intro k dl Y hm; exact absurd hm (Nat.not_lt_zero _)
                | succ n_9 ih =>
                  intro k dl Y hm hk hdl hz hpr H locs ls hX hS hl
                  have ih_11 := ih
                  rcases k with _ | k
                  · refine lv_iload hx hb dX3_plans_42 (lv_at hl 0 rfl) ?_
                    refine zm_topi (y := (-1)) (by decide) ?_
                    refine lv_if_lt (tgt := 70) hx hb dX3_plans_44 (by decide) (fun _ => ?_) (fun c_12 => absurd (by decide) c_12)
                    have hdg : zdg (mW (mPs X w).2) (mPs X w).2 w = Y := by rw [(mPs_pr X w).eW]; exact hz.symm
                    refine lv_aload_n hx hb dX3_plans_70 rfl (lv_at hl 5 rfl) ?_
                    refine zc_i (zr_V (As := []) (rest := []) ⟨hx, hb, hml, hown, hts⟩ (ct_X3_movesOf l g A mo ma Y (by rw [hpr.eN]; exact hn60) (hpr.eH hW) (hpr.eQ hQ)) zn_X3_movesOf (lw_V q1286 q1288 qs36 q48 q1289) rfl (by decide) (by decide) hK (fun _ h => h) hS hX (zx_recv hK hX) rfl hl.1 (Nat.le_of_ble_eq_true rfl) dX3_plans_71 ⟨Nat.le_refl _, Nat.le_refl _⟩) hS (fun _ h => h) (fun r _ H locs r_13 hX _ _ hS => ?_)
                    subst r_13
                    refine lv_istore (lv' := [(5, .int (mMo Y)), (4, .int (nI dl)), (3, .int (nI w)), (2, .int ((mPs X w).1)), (1, .int (nI (3 ^ mW X))), (0, .ref mo)]) hx hb dX3_plans_74 hl (by decide) rfl (fun ls hl => ?_)
                    refine lv_iload hx hb dX3_plans_76 (lv_at hl 0 rfl) ?_
                    refine lv_iconst (v := (-1)) hx hb dX3_plans_78 (by decide) ?_
                    refine lv_icmp_eq (tgt := 128) hx hb dX3_plans_79 (by decide) (fun c_14 => ?_) (fun c_14 => ?_)
                    · have e9 : mPs X (w + 1) = ((mPs X w).1, Y) := by
                        show mPs1 (mPs X w) w = _
                        unfold mPs1
                        rw [hdg]
                        simp [hpr.eW, c_14]
                      have hX : zMX g A mo ma (mPs X (w + 1)).2 H := by rw [e9]; exact hX
                      have hl : lv_has ls 7 [(5, .int (mMo Y)), (4, .int (nI dl)), (3, .int (nI w)), (2, .int ((mPs X (w + 1)).1)), (1, .int (nI (3 ^ mW X))), (0, .ref mo)] := by rw [e9]; exact hl
                      refine lv_iinc (v := nI (w + 1)) (lv' := [(3, .int (nI (w + 1))), (5, .int (mMo Y)), (4, .int (nI dl)), (2, .int ((mPs X (w + 1)).1)), (1, .int (nI (3 ^ mW X))), (0, .ref mo)]) hx hb dX3_plans_128 hl (k := 2) rfl (nI_1 w) (by decide) rfl (fun ls hl => ?_)
                      refine lv_goto (tgt := 26) hx hb dX3_plans_131 (by decide) ?_
                      exact ih_7 (w + 1) (by omega) (by omega) _ _ _ hX hS (lv_sub hl [0, 3, 4, 5] rfl)
                    · refine lv_iload_n hx hb dX3_plans_82 rfl (lv_at hl 3 rfl) ?_
                      refine lv_iconst (v := (-1)) hx hb dX3_plans_83 (by decide) ?_
                      refine lv_icmp_eq (tgt := 93) hx hb dX3_plans_84 (by decide) (fun c_15 => ?_) (fun c_15 => ?_)
                      · refine lv_iload hx hb dX3_plans_93 (lv_at hl 0 rfl) ?_
                        refine lv_istore_n (lv' := [(2, .int (mMo Y)), (5, .int (mMo Y)), (4, .int (nI dl)), (3, .int (nI w)), (1, .int (nI (3 ^ mW X))), (0, .ref mo)]) hx hb dX3_plans_95 rfl hl (by decide) rfl (fun ls hl => ?_)
                        refine lv_iconst (v := 0) hx hb dX3_plans_96 (by decide) ?_
                        refine lv_istore (lv' := [(6, .int 0), (2, .int (mMo Y)), (5, .int (mMo Y)), (4, .int (nI dl)), (3, .int (nI w)), (1, .int (nI (3 ^ mW X))), (0, .ref mo)]) hx hb dX3_plans_97 hl (by decide) rfl (fun ls hl => ?_)
                        have L_17 : ∀ (n_16 : Nat) (i : Nat), mW X + 1 - i < n_16 → (i ≤ mW X) → ∀ (H : Heap) (locs : List Loc) (ls : Array Slot), zMX g A mo ma (zcb Y i) H → va_S A s.heap H locs → lv_has ls 7 [(6, .int (nI i)), (2, .int (mMo Y)), (5, .int (mMo Y)), (4, .int (nI dl)), (3, .int (nI w)), (1, .int (nI (3 ^ mW X))), (0, .ref mo)] → W p l e (zR 2 0 0) s m args below meth c H locs 0 0 (MQ below (va_Qi (fun rz_ (_ : Unit) => rz_ = (m_plans X).1) (fun (_ : Unit) t => zMX g A mo ma ((m_plans X).2) t.heap) A) args s 0 0 A) (F0 m 99 ls []) := by
                          intro n_16
                          induction n_16 with
                          | zero => intro i hm; exact absurd hm (Nat.not_lt_zero _)
                          | succ n_16 ih =>
                            intro i hm hi H locs ls hX hS hl
                            have ih_18 := ih
                            refine lv_iload hx hb dX3_plans_99 (lv_at hl 0 rfl) ?_
                            refine lv_aload_n hx hb dX3_plans_101 rfl (lv_at hl 6 rfl) ?_
                            refine zx_get hx hb hown hts hK hX 26 (by decide) q1047 rfl rfl dX3_plans_102 ?_
                            refine zm_topi (y := nI (mW X)) ((by rw [zcb_pr Y i 26 (by decide) (by decide), hpr 26 (by decide) (by decide)]; exact hW.1)) ?_
                            refine zl_ge (tgt := 128) (a := i) (b := mW X) hx hb (by first | decide | omega) (by first | decide | omega) dX3_plans_105 (by decide) (fun c_19 => ?_) (fun c_19 => ?_)
                            · obtain rfl : i = mW X := by omega
                              have e9 : mPs X (w + 1) = (mMo Y, zcb Y (mW X)) := by
                                show mPs1 (mPs X w) w = _
                                unfold mPs1
                                rw [hdg]
                                simp [hpr.eW, c_14, c_15]
                              have hX : zMX g A mo ma (mPs X (w + 1)).2 H := by rw [e9]; exact hX
                              have hl : lv_has ls 7 [(6, .int (nI (mW X))), (2, .int ((mPs X (w + 1)).1)), (5, .int (mMo Y)), (4, .int (nI dl)), (3, .int (nI w)), (1, .int (nI (3 ^ mW X))), (0, .ref mo)] := by rw [e9]; exact hl
                              refine lv_iinc (v := nI (w + 1)) (lv' := [(3, .int (nI (w + 1))), (6, .int (nI (mW X))), (2, .int ((mPs X (w + 1)).1)), (5, .int (mMo Y)), (4, .int (nI dl)), (1, .int (nI (3 ^ mW X))), (0, .ref mo)]) hx hb dX3_plans_128 hl (k := 4) rfl (nI_1 w) (by decide) rfl (fun ls hl => ?_)
                              refine lv_goto (tgt := 26) hx hb dX3_plans_131 (by decide) ?_
                              exact ih_7 (w + 1) (by omega) (by omega) _ _ _ hX hS (lv_sub hl [0, 2, 5, 6] rfl)
                            · refine lv_aload_n hx hb dX3_plans_108 rfl (lv_at hl 6 rfl) ?_
                              refine zx_get hx hb hown hts hK hX 29 (by decide) q1050 rfl rfl dX3_plans_109 ?_
                              refine lv_iload hx hb dX3_plans_112 (lv_at hl 0 rfl) ?_
                              refine lv_aload_n hx hb dX3_plans_114 rfl (lv_at hl 6 rfl) ?_
                              refine zx_get hx hb hown hts hK hX 30 (by decide) q1051 rfl rfl dX3_plans_115 ?_
                              refine lv_iload hx hb dX3_plans_118 (lv_at hl 0 rfl) ?_
                              refine zx_ld (i := i) hx hb hK hX 30 rfl rfl (n := 8) rfl (by omega) dX3_plans_120 ?_
                              refine zm_topi (y := Y 30 i) ((by rw [zcb_30])) ?_
                              refine zx_st (i := i) hx hb hK hX hS 29 rfl rfl (n := 8) rfl (by omega) dX3_plans_121 (fun H locs hX hS => ?_)
                              have hX : zMX g A mo ma (zcb Y (i + 1)) H := hX
                              refine lv_iinc (v := nI (i + 1)) (lv' := [(6, .int (nI (i + 1))), (2, .int (mMo Y)), (5, .int (mMo Y)), (4, .int (nI dl)), (3, .int (nI w)), (1, .int (nI (3 ^ mW X))), (0, .ref mo)]) hx hb dX3_plans_122 hl (k := 0) rfl (nI_1 i) (by decide) rfl (fun ls hl => ?_)
                              refine lv_goto (tgt := 99) hx hb dX3_plans_125 (by decide) ?_
                              exact ih_18 (i + 1) (by omega) (by omega) _ _ _ hX hS (lv_sub hl [0, 1, 2, 3, 4, 5, 6] rfl)
                        exact L_17 ((mW X + 1 - 0) + 1) 0 (Nat.lt_succ_self _) (by omega) _ _ _ hX hS (lv_sub hl [0, 1, 2, 3, 4, 5, 6] rfl)
                      · refine lv_iload hx hb dX3_plans_87 (lv_at hl 0 rfl) ?_
                        refine lv_iload_n hx hb dX3_plans_89 rfl (lv_at hl 3 rfl) ?_
                        refine lv_icmp_ge (tgt := 128) hx hb dX3_plans_90 (by decide) (fun c_20 => ?_) (fun c_20 => ?_)
                        · have e9 : mPs X (w + 1) = ((mPs X w).1, Y) := by
                            show mPs1 (mPs X w) w = _
                            unfold mPs1
                            rw [hdg]
                            simp [hpr.eW, c_14, c_15, c_20]
                          have hX : zMX g A mo ma (mPs X (w + 1)).2 H := by rw [e9]; exact hX
                          have hl : lv_has ls 7 [(5, .int (mMo Y)), (4, .int (nI dl)), (3, .int (nI w)), (2, .int ((mPs X (w + 1)).1)), (1, .int (nI (3 ^ mW X))), (0, .ref mo)] := by rw [e9]; exact hl
                          refine lv_iinc (v := nI (w + 1)) (lv' := [(3, .int (nI (w + 1))), (5, .int (mMo Y)), (4, .int (nI dl)), (2, .int ((mPs X (w + 1)).1)), (1, .int (nI (3 ^ mW X))), (0, .ref mo)]) hx hb dX3_plans_128 hl (k := 2) rfl (nI_1 w) (by decide) rfl (fun ls hl => ?_)
                          refine lv_goto (tgt := 26) hx hb dX3_plans_131 (by decide) ?_
                          exact ih_7 (w + 1) (by omega) (by omega) _ _ _ hX hS (lv_sub hl [0, 3, 4, 5] rfl)
                        · refine lv_iload hx hb dX3_plans_93 (lv_at hl 0 rfl) ?_
                          refine lv_istore_n (lv' := [(2, .int (mMo Y)), (5, .int (mMo Y)), (4, .int (nI dl)), (3, .int (nI w)), (1, .int (nI (3 ^ mW X))), (0, .ref mo)]) hx hb dX3_plans_95 rfl hl (by decide) rfl (fun ls hl => ?_)
                          refine lv_iconst (v := 0) hx hb dX3_plans_96 (by decide) ?_
                          refine lv_istore (lv' := [(6, .int 0), (2, .int (mMo Y)), (5, .int (mMo Y)), (4, .int (nI dl)), (3, .int (nI w)), (1, .int (nI (3 ^ mW X))), (0, .ref mo)]) hx hb dX3_plans_97 hl (by decide) rfl (fun ls hl => ?_)
                          have L_22 : ∀ (n_21 : Nat) (i : Nat), mW X + 1 - i < n_21 → (i ≤ mW X) → ∀ (H : Heap) (locs : List Loc) (ls : Array Slot), zMX g A mo ma (zcb Y i) H → va_S A s.heap H locs → lv_has ls 7 [(6, .int (nI i)), (2, .int (mMo Y)), (5, .int (mMo Y)), (4, .int (nI dl)), (3, .int (nI w)), (1, .int (nI (3 ^ mW X))), (0, .ref mo)] → W p l e (zR 2 0 0) s m args below meth c H locs 0 0 (MQ below (va_Qi (fun rz_ (_ : Unit) => rz_ = (m_plans X).1) (fun (_ : Unit) t => zMX g A mo ma ((m_plans X).2) t.heap) A) args s 0 0 A) (F0 m 99 ls []) := by
                            intro n_21
                            induction n_21 with
                            | zero => intro i hm; exact absurd hm (Nat.not_lt_zero _)
                            | succ n_21 ih =>
                              intro i hm hi H locs ls hX hS hl
                              have ih_23 := ih
                              refine lv_iload hx hb dX3_plans_99 (lv_at hl 0 rfl) ?_
                              refine lv_aload_n hx hb dX3_plans_101 rfl (lv_at hl 6 rfl) ?_
                              refine zx_get hx hb hown hts hK hX 26 (by decide) q1047 rfl rfl dX3_plans_102 ?_
                              refine zm_topi (y := nI (mW X)) ((by rw [zcb_pr Y i 26 (by decide) (by decide), hpr 26 (by decide) (by decide)]; exact hW.1)) ?_
                              refine zl_ge (tgt := 128) (a := i) (b := mW X) hx hb (by first | decide | omega) (by first | decide | omega) dX3_plans_105 (by decide) (fun c_24 => ?_) (fun c_24 => ?_)
                              · obtain rfl : i = mW X := by omega
                                have e9 : mPs X (w + 1) = (mMo Y, zcb Y (mW X)) := by
                                  show mPs1 (mPs X w) w = _
                                  unfold mPs1
                                  rw [hdg]
                                  simp [hpr.eW, c_14, c_15, c_20]
                                have hX : zMX g A mo ma (mPs X (w + 1)).2 H := by rw [e9]; exact hX
                                have hl : lv_has ls 7 [(6, .int (nI (mW X))), (2, .int ((mPs X (w + 1)).1)), (5, .int (mMo Y)), (4, .int (nI dl)), (3, .int (nI w)), (1, .int (nI (3 ^ mW X))), (0, .ref mo)] := by rw [e9]; exact hl
                                refine lv_iinc (v := nI (w + 1)) (lv' := [(3, .int (nI (w + 1))), (6, .int (nI (mW X))), (2, .int ((mPs X (w + 1)).1)), (5, .int (mMo Y)), (4, .int (nI dl)), (1, .int (nI (3 ^ mW X))), (0, .ref mo)]) hx hb dX3_plans_128 hl (k := 4) rfl (nI_1 w) (by decide) rfl (fun ls hl => ?_)
                                refine lv_goto (tgt := 26) hx hb dX3_plans_131 (by decide) ?_
                                exact ih_7 (w + 1) (by omega) (by omega) _ _ _ hX hS (lv_sub hl [0, 2, 5, 6] rfl)
                              · refine lv_aload_n hx hb dX3_plans_108 rfl (lv_at hl 6 rfl) ?_
                                refine zx_get hx hb hown hts hK hX 29 (by decide) q1050 rfl rfl dX3_plans_109 ?_
                                refine lv_iload hx hb dX3_plans_112 (lv_at hl 0 rfl) ?_
                                refine lv_aload_n hx hb dX3_plans_114 rfl (lv_at hl 6 rfl) ?_
                                refine zx_get hx hb hown hts hK hX 30 (by decide) q1051 rfl rfl dX3_plans_115 ?_
                                refine lv_iload hx hb dX3_plans_118 (lv_at hl 0 rfl) ?_
                                refine zx_ld (i := i) hx hb hK hX 30 rfl rfl (n := 8) rfl (by omega) dX3_plans_120 ?_
                                refine zm_topi (y := Y 30 i) ((by rw [zcb_30])) ?_
                                refine zx_st (i := i) hx hb hK hX hS 29 rfl rfl (n := 8) rfl (by omega) dX3_plans_121 (fun H locs hX hS => ?_)
                                have hX : zMX g A mo ma (zcb Y (i + 1)) H := hX
                                refine lv_iinc (v := nI (i + 1)) (lv' := [(6, .int (nI (i + 1))), (2, .int (mMo Y)), (5, .int (mMo Y)), (4, .int (nI dl)), (3, .int (nI w)), (1, .int (nI (3 ^ mW X))), (0, .ref mo)]) hx hb dX3_plans_122 hl (k := 0) rfl (nI_1 i) (by decide) rfl (fun ls hl => ?_)
                                refine lv_goto (tgt := 99) hx hb dX3_plans_125 (by decide) ?_
                                exact ih_23 (i + 1) (by omega) (by omega) _ _ _ hX hS (lv_sub hl [0, 1, 2, 3, 4, 5, 6] rfl)
                          exact L_22 ((mW X + 1 - 0) + 1) 0 (Nat.lt_succ_self _) (by omega) _ _ _ hX hS (lv_sub hl [0, 1, 2, 3, 4, 5, 6] rfl)
                  · refine lv_iload hx hb dX3_plans_42 (lv_at hl 0 rfl) ?_
                    refine zm_topi (y := nI k) (nI_pred k) ?_
                    refine lv_if_lt (tgt := 70) hx hb dX3_plans_44 (by decide) (fun c_0 => absurd c_0 (nI_pos (by omega))) (fun _ => ?_)
                    refine lv_aload_n hx hb dX3_plans_47 rfl (lv_at hl 5 rfl) ?_
                    refine zx_get hx hb hown hts hK hX 30 (by decide) q1051 rfl rfl dX3_plans_48 ?_
                    refine lv_iload hx hb dX3_plans_51 (lv_at hl 0 rfl) ?_
                    refine zm_topi (y := nI k) (nI_pred k) ?_
                    refine lv_iload hx hb dX3_plans_53 (lv_at hl 1 rfl) ?_
                    refine lv_iconst (v := 3) hx hb dX3_plans_55 (by decide) ?_
                    refine lv_irem hx hb dX3_plans_56 (by decide) ?_
                    refine zm_topi (y := nI (dl % 3)) (pk_rem (d := 3) hdl (by decide) (by decide)) ?_
                    refine zx_st (i := k) hx hb hK hX hS 30 rfl rfl (n := 8) rfl (by omega) dX3_plans_57 (fun H locs hX hS => ?_)
                    refine lv_iload hx hb dX3_plans_58 (lv_at hl 1 rfl) ?_
                    refine lv_iconst (v := 3) hx hb dX3_plans_60 (by decide) ?_
                    refine lv_idiv hx hb dX3_plans_61 (by decide) ?_
                    refine zm_topi (y := nI (dl / 3)) (pk_div (d := 3) hdl (by decide) (by decide)) ?_
                    refine lv_istore (lv' := [(4, .int (nI (dl / 3))), (5, .int (nI (k + 1) - 1)), (3, .int (nI w)), (2, .int ((mPs X w).1)), (1, .int (nI (3 ^ mW X))), (0, .ref mo)]) hx hb dX3_plans_62 hl (by decide) rfl (fun ls hl => ?_)
                    refine lv_iinc (v := nI k - 1) (lv' := [(5, .int (nI k - 1)), (4, .int (nI (dl / 3))), (3, .int (nI w)), (2, .int ((mPs X w).1)), (1, .int (nI (3 ^ mW X))), (0, .ref mo)]) hx hb dX3_plans_64 hl (k := 1) rfl (zdec _) (by decide) rfl (fun ls hl => ?_)
                    refine lv_goto (tgt := 42) hx hb dX3_plans_67 (by decide) ?_
                    exact ih_11 k (dl / 3) (zu Y 30 k (nI (dl % 3))) (by omega) (by omega) (by omega) hz (hpr.tr (zPr.u Y (Or.inr rfl))) _ _ _ hX hS (lv_sub hl [0, 1, 2, 3, 4, 5] rfl)
              exact L_10 (((mW X) + 1) + 1) (mW X) w ((mPs X w).2) (Nat.lt_succ_self _) (Nat.le_refl _) (by omega) rfl (mPs_pr X w) _ _ _ hX hS (lv_sub hl [0, 1, 2, 3, 4, 5] rfl)
        exact L_6 ((3 ^ mW X + 1 - 0) + 1) 0 (Nat.lt_succ_self _) (Nat.zero_le _) _ _ _ hX hS (lv_sub hl [0, 1, 2, 3] rfl)
      · refine lv_iload_n hx hb dX3_plans_12 rfl (lv_at hl 1 rfl) ?_
        refine lv_iconst (v := 3) hx hb dX3_plans_13 (by decide) ?_
        refine lv_imul hx hb dX3_plans_14 ?_
        refine zm_topi (y := nI ((3 ^ j) * 3)) (pk_mul (3 ^ j) 3) ?_
        refine lv_istore_n (lv' := [(1, .int (nI ((3 ^ j) * 3))), (2, .int (nI j)), (0, .ref mo)]) hx hb dX3_plans_15 rfl hl (by decide) rfl (fun ls hl => ?_)
        refine lv_iinc (v := nI (j + 1)) (lv' := [(2, .int (nI (j + 1))), (1, .int (nI ((3 ^ j) * 3))), (0, .ref mo)]) hx hb dX3_plans_16 hl (k := 1) rfl (nI_1 j) (by decide) rfl (fun ls hl => ?_)
        refine lv_goto (tgt := 4) hx hb dX3_plans_19 (by decide) ?_
        exact ih_3 (j + 1) (by omega) (by omega) _ _ _ hX hS (lv_sub hl [0, 1, 2] rfl)
  exact L_2 ((mW X + 1 - 0) + 1) 0 (Nat.lt_succ_self _) (by omega) _ _ _ hX hS (lv_sub hl [0, 1, 2] rfl)
