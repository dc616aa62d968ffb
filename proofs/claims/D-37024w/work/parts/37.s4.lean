theorem zn_X1_isDue : zN yX1_isDue 1 := by decide +kernel
set_option maxHeartbeats 4000000 in
theorem ct_X1_isDue (l : Launch) (g : zG) (A : Nat → Prop) (S : zS) (X : zX) (T : zT) (hY : zSy S g X T) (hI : MH X) (i : Nat) (hi : i < mN X) : Met l yX1_isDue (ws_ yX1_isDue cX1_isDue 2 (some .boolean)) (zR 1 0 0) (zP [.ref (S.A 0), .ref (S.pa i)] g A (zTH g A T)) (va_Qi (fun rz_ (_ : Unit) => rz_ = zb (mDu X i)) (fun (_ : Unit) t => zTH g A T t.heap) A) 0 0 A := by
  refine zb_met (by decide) (Nat.le_of_ble_eq_true rfl) ?_
  intro p e s m args below meth c ls hx hb hr hml hown hts hlocks hnm hK hT ha_ hl
  have hown : s.vm.findClass RX1 = some m.cls := hown
  have hS : va_S A s.heap s.heap [] := va_S.rf
  have hl : lv_has ls 2 [(0, .ref (S.A 0)), (1, .ref (S.pa i))] := hl
  refine lv_aload_n hx hb dX1_isDue_0 rfl (lv_at hl 0 rfl) ?_
  refine zt_get hx hb hts in_X1 hown hK.1 hT hY.w rfl 2 (by decide) (hts _ q179) (fun _ h => h) rfl dX1_isDue_1 ?_
  refine lv_aload_n hx hb dX1_isDue_4 rfl (lv_at hl 1 rfl) ?_
  refine zt_getN hx hb hts in_X4 hown hK.1 hT (hY.p hi) rfl 1 (by decide) (va_Nw.use (A := args) rfl (hK.2.1.1 _ _ _ _ _ _ q385)) (fun _ h => h) rfl dX1_isDue_5 ?_
  refine zm_topi (y := nI (mK X i)) ((hI.2.1 _ hi).1) ?_
  have hk4_ := (hI.2.1 _ hi).2
  refine zt_ild (k := mK X i) hx hb hK.1 hT hY.a4 (by omega) (by omega) dX1_isDue_8 ?_
  refine lv_if_le (tgt := 37) hx hb dX1_isDue_9 (by decide) (fun c_1 => ?_) (fun c_1 => ?_)
  · refine lv_iconst (v := 0) hx hb dX1_isDue_37 (by decide) ?_
    exact ze_z hx hb hr hlocks hS dX1_isDue_38 (by show _ ≤ 0; omega) (by show _ ≤ 0; omega) (Or.inl rfl) () (by simp [mDu, zb, c_1]) hT
  · refine lv_aload_n hx hb dX1_isDue_12 rfl (lv_at hl 1 rfl) ?_
    refine zt_getN hx hb hts in_X4 hown hK.1 hT (hY.p hi) rfl 8 (by decide) (va_Nw.use (A := args) rfl (hK.2.1.1 _ _ _ _ _ _ q399)) (fun _ h => h) rfl dX1_isDue_13 ?_
    refine lv_aload_n hx hb dX1_isDue_16 rfl (lv_at hl 0 rfl) ?_
    refine zt_get hx hb hts in_X1 hown hK.1 hT hY.w rfl 2 (by decide) (hts _ q179) (fun _ h => h) rfl dX1_isDue_17 ?_
    refine lv_aload_n hx hb dX1_isDue_20 rfl (lv_at hl 1 rfl) ?_
    refine zt_getN hx hb hts in_X4 hown hK.1 hT (hY.p hi) rfl 1 (by decide) (va_Nw.use (A := args) rfl (hK.2.1.1 _ _ _ _ _ _ q385)) (fun _ h => h) rfl dX1_isDue_21 ?_
    refine zm_topi (y := nI (mK X i)) ((hI.2.1 _ hi).1) ?_
    have hk4_ := (hI.2.1 _ hi).2
    refine zt_ild (k := mK X i) hx hb hK.1 hT hY.a4 (by omega) (by omega) dX1_isDue_24 ?_
    refine lv_aload_n hx hb dX1_isDue_25 rfl (lv_at hl 1 rfl) ?_
    refine zt_getN hx hb hts in_X4 hown hK.1 hT (hY.p hi) rfl 9 (by decide) (va_Nw.use (A := args) rfl (hK.2.1.1 _ _ _ _ _ _ q400)) (fun _ h => h) rfl dX1_isDue_26 ?_
    refine lv_iadd hx hb dX1_isDue_29 ?_
    refine lv_icmp_le (tgt := 37) hx hb dX1_isDue_30 (by decide) (fun c_2 => ?_) (fun c_2 => ?_)
    · refine lv_iconst (v := 0) hx hb dX1_isDue_37 (by decide) ?_
      exact ze_z hx hb hr hlocks hS dX1_isDue_38 (by show _ ≤ 0; omega) (by show _ ≤ 0; omega) (Or.inl rfl) () (by simp [mDu, zb, c_1, c_2]) hT
    · refine lv_iconst (v := 1) hx hb dX1_isDue_33 (by decide) ?_
      refine lv_goto (tgt := 38) hx hb dX1_isDue_34 (by decide) ?_
      exact ze_z hx hb hr hlocks hS dX1_isDue_38 (by show _ ≤ 0; omega) (by show _ ≤ 0; omega) (Or.inr rfl) () (by simp [mDu, zb, c_1, c_2]) hT
theorem zn_X1_isBar : zN yX1_isBar 2 := by decide +kernel
set_option maxHeartbeats 4000000 in
theorem ct_X1_isBar (l : Launch) (g : zG) (A : Nat → Prop) (S : zS) (X : zX) (T : zT) (hY : zSy S g X T) (hI : MH X) (hC : zKo S X) (hKk : zKk S X) (hz9 : ∀ p, X 9 p = 0 ∨ X 9 p = 1) (hz10 : ∀ p, X 10 p = 0 ∨ X 10 p = 1) (i : Nat) (hi : i < mN X) (rs : Nat) (hrs : 1 ≤ rs ∧ rs ≤ 7) : Met l yX1_isBar (ws_ yX1_isBar cX1_isBar 3 (some .boolean)) (zR 12 0 0) (zP [.ref (S.A 0), .ref (S.pa i), .int (nI rs)] g A (zTH g A T)) (va_Qi (fun rz_ (_ : Unit) => rz_ = zb (zBr S X i rs)) (fun (_ : Unit) t => zTH g A T t.heap) A) 0 0 A := by
  refine zb_met (by decide) (Nat.le_of_ble_eq_true rfl) ?_
  intro p e s m args below meth c ls hx hb hr hml hown hts hlocks hnm hK hT ha_ hl
  have hown : s.vm.findClass RX1 = some m.cls := hown
  have hS : va_S A s.heap s.heap [] := va_S.rf
  have hl : lv_has ls 3 [(0, .ref (S.A 0)), (1, .ref (S.pa i)), (2, .int (nI rs))] := hl
  rcases (show rs = 1 ∨ rs = 2 ∨ rs = 3 ∨ rs = 4 ∨ rs = 5 ∨ rs = 6 ∨ rs = 7 by omega) with rfl | rfl | rfl | rfl | rfl | rfl | rfl
  · refine lv_iload_n hx hb dX1_isBar_0 rfl (lv_at hl 2 rfl) ?_
    refine lv_tableIn (x := nI 1) (off := 39) (tgt := 40) hx hb dX1_isBar_1 (by decide) (by decide) rfl (by decide) ?_
    refine lv_aload_n hx hb dX1_isBar_40 rfl (lv_at hl 1 rfl) ?_
    refine zc_i (zr_V (As := []) (rest := []) ⟨hx, hb, hml, hown, hts⟩ (ct_X4_lacks l g A S X _ hY hI hC i hi) zn_X4_lacks (lw_V q703 q704 q705 q54 q706) rfl (by decide) (by decide) hK (fun _ h => h) hS hT (zt_recv hK.1 hT (hY.p hi) rfl) rfl hl.1 (Nat.le_of_ble_eq_true rfl) dX1_isBar_41 ⟨by show _ + 0 ≤ _; omega, by show _ + 0 ≤ _; omega⟩) hS (fun _ h => h) (fun r _ H locs hr_1 hT _ _ hS => ?_)
    subst hr_1
    refine lv_goto (tgt := 116) hx hb dX1_isBar_44 (by decide) ?_
    exact ze_z hx hb hr hlocks hS dX1_isBar_116 (by show _ ≤ 0; omega) (by show _ ≤ 0; omega) (zb_or _) () (by simp [zBr]) hT
  · refine lv_iload_n hx hb dX1_isBar_0 rfl (lv_at hl 2 rfl) ?_
    refine lv_tableIn (x := nI 2) (off := 46) (tgt := 47) hx hb dX1_isBar_1 (by decide) (by decide) rfl (by decide) ?_
    refine lv_aload_n hx hb dX1_isBar_47 rfl (lv_at hl 1 rfl) ?_
    refine zt_getN hx hb hts in_X4 hown hK.1 hT (hY.p hi) rfl 10 (by decide) (va_Nw.use (A := args) rfl (hK.2.1.1 _ _ _ _ _ _ q401)) (fun _ h => h) rfl dX1_isBar_48 ?_
    refine lv_goto (tgt := 116) hx hb dX1_isBar_51 (by decide) ?_
    exact ze_z hx hb hr hlocks hS dX1_isBar_116 (by show _ ≤ 0; omega) (by show _ ≤ 0; omega) (hz9 _) () (by rcases hz9 i with e | e <;> (rw [e]; simp [zBr, mBb, zb, e])) hT
  · refine lv_iload_n hx hb dX1_isBar_0 rfl (lv_at hl 2 rfl) ?_
    refine lv_tableIn (x := nI 3) (off := 53) (tgt := 54) hx hb dX1_isBar_1 (by decide) (by decide) rfl (by decide) ?_
    refine lv_aload_n hx hb dX1_isBar_54 rfl (lv_at hl 1 rfl) ?_
    refine zt_getN hx hb hts in_X4 hown hK.1 hT (hY.p hi) rfl 11 (by decide) (va_Nw.use (A := args) rfl (hK.2.1.1 _ _ _ _ _ _ q403)) (fun _ h => h) rfl dX1_isBar_55 ?_
    refine lv_goto (tgt := 116) hx hb dX1_isBar_58 (by decide) ?_
    exact ze_z hx hb hr hlocks hS dX1_isBar_116 (by show _ ≤ 0; omega) (by show _ ≤ 0; omega) (hz10 _) () (by rcases hz10 i with e | e <;> (rw [e]; simp [zBr, mBb, zb, e])) hT
  · refine lv_iload_n hx hb dX1_isBar_0 rfl (lv_at hl 2 rfl) ?_
    refine lv_tableIn (x := nI 4) (off := 60) (tgt := 61) hx hb dX1_isBar_1 (by decide) (by decide) rfl (by decide) ?_
    refine lv_aload_n hx hb dX1_isBar_61 rfl (lv_at hl 0 rfl) ?_
    refine zt_get hx hb hts in_X1 hown hK.1 hT hY.w rfl 1 (by decide) (hts _ q178) (fun _ h => h) rfl dX1_isBar_62 ?_
    refine lv_aload_n hx hb dX1_isBar_65 rfl (lv_at hl 1 rfl) ?_
    refine zt_getN hx hb hts in_X4 hown hK.1 hT (hY.p hi) rfl 1 (by decide) (va_Nw.use (A := args) rfl (hK.2.1.1 _ _ _ _ _ _ q385)) (fun _ h => h) rfl dX1_isBar_66 ?_
    refine zm_topi (y := nI (mK X i)) ((hI.2.1 _ hi).1) ?_
    have hk4_ := (hI.2.1 _ hi).2
    refine zt_ild (k := mK X i) hx hb hK.1 hT hY.a3 (by omega) (by omega) dX1_isBar_69 ?_
    refine lv_if_le (tgt := 93) hx hb dX1_isBar_70 (by decide) (fun c_2 => ?_) (fun c_2 => ?_)
    · refine lv_iconst (v := 0) hx hb dX1_isBar_93 (by decide) ?_
      refine lv_goto (tgt := 116) hx hb dX1_isBar_94 (by decide) ?_
      exact ze_z hx hb hr hlocks hS dX1_isBar_116 (by show _ ≤ 0; omega) (by show _ ≤ 0; omega) (Or.inl rfl) () (by simp [zBr, mBb, zb, c_2]) hT
    · refine lv_aload_n hx hb dX1_isBar_73 rfl (lv_at hl 1 rfl) ?_
      refine zt_getN hx hb hts in_X4 hown hK.1 hT (hY.p hi) rfl 7 (by decide) (va_Nw.use (A := args) rfl (hK.2.1.1 _ _ _ _ _ _ q397)) (fun _ h => h) rfl dX1_isBar_74 ?_
      refine lv_aload_n hx hb dX1_isBar_77 rfl (lv_at hl 0 rfl) ?_
      refine zt_get hx hb hts in_X1 hown hK.1 hT hY.w rfl 1 (by decide) (hts _ q178) (fun _ h => h) rfl dX1_isBar_78 ?_
      refine lv_aload_n hx hb dX1_isBar_81 rfl (lv_at hl 1 rfl) ?_
      refine zt_getN hx hb hts in_X4 hown hK.1 hT (hY.p hi) rfl 1 (by decide) (va_Nw.use (A := args) rfl (hK.2.1.1 _ _ _ _ _ _ q385)) (fun _ h => h) rfl dX1_isBar_82 ?_
      refine zm_topi (y := nI (mK X i)) ((hI.2.1 _ hi).1) ?_
      have hk4_ := (hI.2.1 _ hi).2
      refine zt_ild (k := mK X i) hx hb hK.1 hT hY.a3 (by omega) (by omega) dX1_isBar_85 ?_
      refine lv_icmp_le (tgt := 93) hx hb dX1_isBar_86 (by decide) (fun c_3 => ?_) (fun c_3 => ?_)
      · refine lv_iconst (v := 0) hx hb dX1_isBar_93 (by decide) ?_
        refine lv_goto (tgt := 116) hx hb dX1_isBar_94 (by decide) ?_
        exact ze_z hx hb hr hlocks hS dX1_isBar_116 (by show _ ≤ 0; omega) (by show _ ≤ 0; omega) (Or.inl rfl) () (by simp [zBr, mBb, zb, c_2, c_3]) hT
      · refine lv_iconst (v := 1) hx hb dX1_isBar_89 (by decide) ?_
        refine lv_goto (tgt := 116) hx hb dX1_isBar_90 (by decide) ?_
        exact ze_z hx hb hr hlocks hS dX1_isBar_116 (by show _ ≤ 0; omega) (by show _ ≤ 0; omega) (Or.inr rfl) () (by simp [zBr, mBb, zb, c_2, c_3]) hT
  · refine lv_iload_n hx hb dX1_isBar_0 rfl (lv_at hl 2 rfl) ?_
    refine lv_tableIn (x := nI 5) (off := 96) (tgt := 97) hx hb dX1_isBar_1 (by decide) (by decide) rfl (by decide) ?_
    refine lv_aload_n hx hb dX1_isBar_97 rfl (lv_at hl 1 rfl) ?_
    refine zc_i (zr_V (As := []) (rest := []) ⟨hx, hb, hml, hown, hts⟩ (ct_X4_isWorn l g A S X _ hY hI i hi) zn_X4_isWorn (lw_V q709 q710 q711 q54 q712) rfl (by decide) (by decide) hK (fun _ h => h) hS hT (zt_recv hK.1 hT (hY.p hi) rfl) rfl hl.1 (Nat.le_of_ble_eq_true rfl) dX1_isBar_98 ⟨by show _ + 0 ≤ _; omega, by show _ + 0 ≤ _; omega⟩) hS (fun _ h => h) (fun r _ H locs hr_4 hT _ _ hS => ?_)
    subst hr_4
    refine lv_goto (tgt := 116) hx hb dX1_isBar_101 (by decide) ?_
    exact ze_z hx hb hr hlocks hS dX1_isBar_116 (by show _ ≤ 0; omega) (by show _ ≤ 0; omega) (zb_or _) () (by simp [zBr, mBb, zb]) hT
  · refine lv_iload_n hx hb dX1_isBar_0 rfl (lv_at hl 2 rfl) ?_
    refine lv_tableIn (x := nI 6) (off := 103) (tgt := 104) hx hb dX1_isBar_1 (by decide) (by decide) rfl (by decide) ?_
    refine lv_aload_n hx hb dX1_isBar_104 rfl (lv_at hl 1 rfl) ?_
    refine zc_i (zr_V (As := []) (rest := []) ⟨hx, hb, hml, hown, hts⟩ (ct_X4_isUnlike l g A S X _ hY hI hC hKk i hi) zn_X4_isUnlike (lw_V q713 q714 q715 q54 q716) rfl (by decide) (by decide) hK (fun _ h => h) hS hT (zt_recv hK.1 hT (hY.p hi) rfl) rfl hl.1 (Nat.le_of_ble_eq_true rfl) dX1_isBar_105 ⟨by show _ + 0 ≤ _; omega, by show _ + 0 ≤ _; omega⟩) hS (fun _ h => h) (fun r _ H locs hr_5 hT _ _ hS => ?_)
    subst hr_5
    refine lv_goto (tgt := 116) hx hb dX1_isBar_108 (by decide) ?_
    exact ze_z hx hb hr hlocks hS dX1_isBar_116 (by show _ ≤ 0; omega) (by show _ ≤ 0; omega) (zb_or _) () (by simp [zBr]) hT
  · refine lv_iload_n hx hb dX1_isBar_0 rfl (lv_at hl 2 rfl) ?_
    refine lv_tableOut (x := nI 7) (tgt := 111) hx hb dX1_isBar_1 (by decide) (by decide) ?_
    refine lv_aload_n hx hb dX1_isBar_111 rfl (lv_at hl 0 rfl) ?_
    refine lv_aload_n hx hb dX1_isBar_112 rfl (lv_at hl 1 rfl) ?_
    refine zc_i (zr_V (As := [.ref (S.pa i)]) (rest := []) ⟨hx, hb, hml, hown, hts⟩ (ct_X1_isDue l g A S X _ hY hI i hi) zn_X1_isDue (lw_V q725 q727 qs11 q39 q728) rfl (by decide) (by decide) hK (fun _ h => h) hS hT (zt_recv hK.1 hT hY.w rfl) rfl hl.1 (Nat.le_of_ble_eq_true rfl) dX1_isBar_113 ⟨by show _ + 0 ≤ _; omega, by show _ + 0 ≤ _; omega⟩) hS (fun _ h => h) (fun r _ H locs hr_6 hT _ _ hS => ?_)
    subst hr_6
    exact ze_z hx hb hr hlocks hS dX1_isBar_116 (by show _ ≤ 0; omega) (by show _ ≤ 0; omega) (zb_or _) () (by simp [zBr, mBb, zb]) hT
theorem zn_X1_waits : zN yX1_waits 1 := by decide +kernel
set_option maxHeartbeats 4000000 in
theorem ct_X1_waits (l : Launch) (g : zG) (A : Nat → Prop) (S : zS) (X : zX) (T : zT) (hY : zSy S g X T) (hW : zWo S X) (i : Nat) (hi : i < mN X) : Met l yX1_waits (ws_ yX1_waits cX1_waits 4 (some .boolean)) (zR 4 0 0) (zP [.ref (S.A 0), .ref (S.pa i)] g A (zTH g A T)) (va_Qi (fun rz_ (_ : Unit) => rz_ = zb (S.Wt.any (fun e => decide (e.2.1 = i)))) (fun (_ : Unit) t => zTH g A T t.heap) A) 0 0 A := by
  refine zb_met (by decide) (Nat.le_of_ble_eq_true rfl) ?_
  intro p e s m args below meth c ls hx hb hr hml hown hts hlocks hnm hK hT ha_ hl
  have hown : s.vm.findClass RX1 = some m.cls := hown
  have hS : va_S A s.heap s.heap [] := va_S.rf
  have hl : lv_has ls 4 [(0, .ref (S.A 0)), (1, .ref (S.pa i))] := hl
  have hlen := hW.1.1
  refine lv_iconst (v := 0) hx hb dX1_waits_0 (by decide) ?_
  refine lv_istore_n (lv' := [(2, .int 0), (0, .ref (S.A 0)), (1, .ref (S.pa i))]) hx hb dX1_waits_1 rfl hl (by decide) rfl (fun ls hl => ?_)
  refine lv_iconst (v := 0) hx hb dX1_waits_2 (by decide) ?_
  refine lv_istore_n (lv' := [(3, .int 0), (2, .int 0), (0, .ref (S.A 0)), (1, .ref (S.pa i))]) hx hb dX1_waits_3 rfl hl (by decide) rfl (fun ls hl => ?_)
  have L_2 : ∀ (n_1 : Nat) (k : Nat), (S.Wt.length + 1 - k) < n_1 → (k ≤ S.Wt.length) → ∀ (H : Heap) (locs : List Loc) (ls : Array Slot), zTH g A T H → va_S A s.heap H locs → lv_has ls 4 [(3, .int (nI k)), (2, .int (zb (zLa S.Wt (fun e => decide (e.2.1 = i)) k))), (0, .ref (S.A 0)), (1, .ref (S.pa i))] → W p l e (zR 4 0 0) s m args below meth c H locs 0 0 (MQ below (va_Qi (fun rz_ (_ : Unit) => rz_ = zb (S.Wt.any (fun e => decide (e.2.1 = i)))) (fun (_ : Unit) t => zTH g A T t.heap) A) args s 0 0 A) (F0 m 4 ls []) := by
    intro n_1
    induction n_1 with
    | zero => intro k hm; exact absurd hm (Nat.not_lt_zero _)
    | succ n_1 ih =>
      intro k hm hk H locs ls hT hS hl
      have ih_3 := ih
      refine lv_iload_n hx hb dX1_waits_4 rfl (lv_at hl 0 rfl) ?_
      refine lv_aload_n hx hb dX1_waits_5 rfl (lv_at hl 2 rfl) ?_
      refine zt_get hx hb hts in_X1 hown hK.1 hT hY.w rfl 5 (by decide) (hts _ q182) (fun _ h => h) rfl dX1_waits_6 ?_
      refine zc_i (zr_V (As := []) (rest := [.int (nI k)]) ⟨hx, hb, hml, hown, hts⟩ (ct_J2_size l g A T _ (S.mu 7) _ hY.wl) zn_J2_size (lw_V q225 q226 q227 q43 q228) rfl (by decide) (by decide) hK (fun _ h => h) hS hT (zt_recvL hK.1 hT hY.wl) rfl hl.1 (Nat.le_of_ble_eq_true rfl) dX1_waits_9 ⟨by show _ + 0 ≤ _; omega, by show _ + 0 ≤ _; omega⟩) hS (fun _ h => h) (fun r _ H locs hr1 hT _ _ hS => ?_)
      subst hr1
      refine zm_topi (y := nI (S.Wt.length)) (by simp) ?_
      refine zl_ge (tgt := 47) (a := k) (b := S.Wt.length) hx hb (by first | decide | omega) (by first | decide | omega) dX1_waits_12 (by decide) (fun c_4 => ?_) (fun c_4 => ?_)
      · refine lv_iload_n hx hb dX1_waits_47 rfl (lv_at hl 1 rfl) ?_
        exact ze_z hx hb hr hlocks hS dX1_waits_48 (by show _ ≤ 0; omega) (by show _ ≤ 0; omega) (zb_or _) () (by rw [zLa_t (by omega)]) hT
      · refine lv_iload_n hx hb dX1_waits_15 rfl (lv_at hl 1 rfl) ?_
        refine lv_aload_n hx hb dX1_waits_16 rfl (lv_at hl 2 rfl) ?_
        refine zt_get hx hb hts in_X1 hown hK.1 hT hY.w rfl 5 (by decide) (hts _ q182) (fun _ h => h) rfl dX1_waits_17 ?_
        refine lv_iload_n hx hb dX1_waits_20 rfl (lv_at hl 0 rfl) ?_
        refine zc_q (zr_V (As := [.int (nI k)]) (rest := [.int (zb (zLa S.Wt (fun e => decide (e.2.1 = i)) k))]) ⟨hx, hb, hml, hown, hts⟩ (ct_J2_get l g A T _ (S.mu 7) _ hY.wl k (by simpa using (show k < (S.Wt).length from by omega))) zn_J2_get (lw_V q234 q235 q236 q43 q237) rfl (by decide) (by decide) hK (fun _ h => h) hS hT (zt_recvL hK.1 hT hY.wl) rfl hl.1 (Nat.le_of_ble_eq_true rfl) dX1_waits_21 ⟨by show _ + 0 ≤ _; omega, by show _ + 0 ≤ _; omega⟩) hS (fun _ h => h) (fun r _ H locs hg_5 hT _ _ hS => ?_)
        obtain ⟨q_6, hq_7, hm_8, hc_9⟩ : ∃ e, (S.Wt)[k]? = some e ∧ e.2.1 < mN X ∧ zCg S _ e := ⟨_, List.getElem?_eq_getElem (by omega), hW.1.2 _ (List.getElem_mem _), hY.wt _ (List.getElem_mem _)⟩
        have hg_5r : r = some q_6.1 := by rw [hg_5]; exact Option.some.inj ((List.getElem?_eq_getElem _).symm.trans (by rw [List.getElem?_map, hq_7]; rfl))
        clear hg_5
        subst hg_5r
        refine zm_top (v' := .ref q_6.1) rfl ?_
        refine va_castS hx hb hown (hts _ q248) (hK.1.1 8 _ rfl).2 (zt_recv hK.1 hT hc_9 (r := zCl[8]) rfl) dX1_waits_24 ?_
        refine zt_getN hx hb hts in_X9 hown hK.1 hT hc_9 rfl 0 (by decide) (va_Nw.use (A := args) rfl (hK.2.1.1 _ _ _ _ _ _ q899)) (fun _ h => h) rfl dX1_waits_27 ?_
        refine lv_aload_n hx hb dX1_waits_30 rfl (lv_at hl 3 rfl) ?_
        refine lv_acmp_ne (tgt := 38) (rx := some (S.pa q_6.2.1)) (ry := some (S.pa i)) hx hb dX1_waits_31 (by decide) (fun c_10 => ?_) (fun c_10 => ?_)
        · refine lv_iconst (v := 0) hx hb dX1_waits_38 (by decide) ?_
          refine lv_ior hx hb dX1_waits_39 ?_
          refine zm_topi (y := zb (zLa S.Wt (fun e => decide (e.2.1 = i)) (k + 1))) (by rw [zLa_s hq_7, ← zb_ior]; congr 1; exact (zb_f (decide_eq_false (fun z => c_10 (by rw [z])))).symm) ?_
          refine lv_istore_n (lv' := [(2, .int (zb (zLa S.Wt (fun e => decide (e.2.1 = i)) (k + 1)))), (3, .int (nI k)), (0, .ref (S.A 0)), (1, .ref (S.pa i))]) hx hb dX1_waits_40 rfl hl (by decide) rfl (fun ls hl => ?_)
          refine lv_iinc (v := nI (k + 1)) (lv' := [(3, .int (nI (k + 1))), (2, .int (zb (zLa S.Wt (fun e => decide (e.2.1 = i)) (k + 1)))), (0, .ref (S.A 0)), (1, .ref (S.pa i))]) hx hb dX1_waits_41 hl (k := 1) rfl (nI_1 k) (by decide) rfl (fun ls hl => ?_)
          refine lv_goto (tgt := 4) hx hb dX1_waits_44 (by decide) ?_
          exact ih_3 (k + 1) (by omega) (by omega) _ _ _ hT hS (lv_sub hl [0, 1, 2, 3] rfl)
        · refine lv_iconst (v := 1) hx hb dX1_waits_34 (by decide) ?_
          refine lv_goto (tgt := 39) hx hb dX1_waits_35 (by decide) ?_
          refine lv_ior hx hb dX1_waits_39 ?_
          refine zm_topi (y := zb (zLa S.Wt (fun e => decide (e.2.1 = i)) (k + 1))) (by rw [zLa_s hq_7, ← zb_ior]; congr 1; exact (zb_t (decide_eq_true (hY.pinj hm_8 hi (Option.some.inj c_10)))).symm) ?_
          refine lv_istore_n (lv' := [(2, .int (zb (zLa S.Wt (fun e => decide (e.2.1 = i)) (k + 1)))), (3, .int (nI k)), (0, .ref (S.A 0)), (1, .ref (S.pa i))]) hx hb dX1_waits_40 rfl hl (by decide) rfl (fun ls hl => ?_)
          refine lv_iinc (v := nI (k + 1)) (lv' := [(3, .int (nI (k + 1))), (2, .int (zb (zLa S.Wt (fun e => decide (e.2.1 = i)) (k + 1)))), (0, .ref (S.A 0)), (1, .ref (S.pa i))]) hx hb dX1_waits_41 hl (k := 1) rfl (nI_1 k) (by decide) rfl (fun ls hl => ?_)
          refine lv_goto (tgt := 4) hx hb dX1_waits_44 (by decide) ?_
          exact ih_3 (k + 1) (by omega) (by omega) _ _ _ hT hS (lv_sub hl [0, 1, 2, 3] rfl)
  exact L_2 ((S.Wt.length + 1 - 0) + 1) 0 (Nat.lt_succ_self _) (Nat.zero_le _) _ _ _ hT hS (lv_sub hl [0, 1, 2, 3] rfl)
theorem zn_X1_hasTime : zN yX1_hasTime 1 := by decide +kernel
set_option maxHeartbeats 4000000 in
theorem ct_X1_hasTime (l : Launch) (g : zG) (A : Nat → Prop) (S : zS) (X : zX) (T : zT) (hY : zSy S g X T) (hW : zWo S X) (tm : Int32) : Met l yX1_hasTime (ws_ yX1_hasTime cX1_hasTime 4 (some .boolean)) (zR 4 0 0) (zP [.ref (S.A 0), .int tm] g A (zTH g A T)) (va_Qi (fun rz_ (_ : Unit) => rz_ = zb (S.Wt.any (fun e => decide (e.2.2 = tm)))) (fun (_ : Unit) t => zTH g A T t.heap) A) 0 0 A := by
  refine zb_met (by decide) (Nat.le_of_ble_eq_true rfl) ?_
  intro p e s m args below meth c ls hx hb hr hml hown hts hlocks hnm hK hT ha_ hl
  have hown : s.vm.findClass RX1 = some m.cls := hown
  have hS : va_S A s.heap s.heap [] := va_S.rf
  have hl : lv_has ls 4 [(0, .ref (S.A 0)), (1, .int tm)] := hl
  have hlen := hW.1.1
  refine lv_iconst (v := 0) hx hb dX1_hasTime_0 (by decide) ?_
  refine lv_istore_n (lv' := [(2, .int 0), (0, .ref (S.A 0)), (1, .int tm)]) hx hb dX1_hasTime_1 rfl hl (by decide) rfl (fun ls hl => ?_)
  refine lv_iconst (v := 0) hx hb dX1_hasTime_2 (by decide) ?_
  refine lv_istore_n (lv' := [(3, .int 0), (2, .int 0), (0, .ref (S.A 0)), (1, .int tm)]) hx hb dX1_hasTime_3 rfl hl (by decide) rfl (fun ls hl => ?_)
  have L_2 : ∀ (n_1 : Nat) (k : Nat), (S.Wt.length + 1 - k) < n_1 → (k ≤ S.Wt.length) → ∀ (H : Heap) (locs : List Loc) (ls : Array Slot), zTH g A T H → va_S A s.heap H locs → lv_has ls 4 [(3, .int (nI k)), (2, .int (zb (zLa S.Wt (fun e => decide (e.2.2 = tm)) k))), (0, .ref (S.A 0)), (1, .int tm)] → W p l e (zR 4 0 0) s m args below meth c H locs 0 0 (MQ below (va_Qi (fun rz_ (_ : Unit) => rz_ = zb (S.Wt.any (fun e => decide (e.2.2 = tm)))) (fun (_ : Unit) t => zTH g A T t.heap) A) args s 0 0 A) (F0 m 4 ls []) := by
    intro n_1
    induction n_1 with
    | zero => intro k hm; exact absurd hm (Nat.not_lt_zero _)
    | succ n_1 ih =>
      intro k hm hk H locs ls hT hS hl
      have ih_3 := ih
      refine lv_iload_n hx hb dX1_hasTime_4 rfl (lv_at hl 0 rfl) ?_
      refine lv_aload_n hx hb dX1_hasTime_5 rfl (lv_at hl 2 rfl) ?_
      refine zt_get hx hb hts in_X1 hown hK.1 hT hY.w rfl 5 (by decide) (hts _ q182) (fun _ h => h) rfl dX1_hasTime_6 ?_
      refine zc_i (zr_V (As := []) (rest := [.int (nI k)]) ⟨hx, hb, hml, hown, hts⟩ (ct_J2_size l g A T _ (S.mu 7) _ hY.wl) zn_J2_size (lw_V q225 q226 q227 q43 q228) rfl (by decide) (by decide) hK (fun _ h => h) hS hT (zt_recvL hK.1 hT hY.wl) rfl hl.1 (Nat.le_of_ble_eq_true rfl) dX1_hasTime_9 ⟨by show _ + 0 ≤ _; omega, by show _ + 0 ≤ _; omega⟩) hS (fun _ h => h) (fun r _ H locs hr1 hT _ _ hS => ?_)
      subst hr1
      refine zm_topi (y := nI (S.Wt.length)) (by simp) ?_
      refine zl_ge (tgt := 47) (a := k) (b := S.Wt.length) hx hb (by first | decide | omega) (by first | decide | omega) dX1_hasTime_12 (by decide) (fun c_4 => ?_) (fun c_4 => ?_)
      · refine lv_iload_n hx hb dX1_hasTime_47 rfl (lv_at hl 1 rfl) ?_
        exact ze_z hx hb hr hlocks hS dX1_hasTime_48 (by show _ ≤ 0; omega) (by show _ ≤ 0; omega) (zb_or _) () (by rw [zLa_t (by omega)]) hT
      · refine lv_iload_n hx hb dX1_hasTime_15 rfl (lv_at hl 1 rfl) ?_
        refine lv_aload_n hx hb dX1_hasTime_16 rfl (lv_at hl 2 rfl) ?_
        refine zt_get hx hb hts in_X1 hown hK.1 hT hY.w rfl 5 (by decide) (hts _ q182) (fun _ h => h) rfl dX1_hasTime_17 ?_
        refine lv_iload_n hx hb dX1_hasTime_20 rfl (lv_at hl 0 rfl) ?_
        refine zc_q (zr_V (As := [.int (nI k)]) (rest := [.int (zb (zLa S.Wt (fun e => decide (e.2.2 = tm)) k))]) ⟨hx, hb, hml, hown, hts⟩ (ct_J2_get l g A T _ (S.mu 7) _ hY.wl k (by simpa using (show k < (S.Wt).length from by omega))) zn_J2_get (lw_V q234 q235 q236 q43 q237) rfl (by decide) (by decide) hK (fun _ h => h) hS hT (zt_recvL hK.1 hT hY.wl) rfl hl.1 (Nat.le_of_ble_eq_true rfl) dX1_hasTime_21 ⟨by show _ + 0 ≤ _; omega, by show _ + 0 ≤ _; omega⟩) hS (fun _ h => h) (fun r _ H locs hg_5 hT _ _ hS => ?_)
        obtain ⟨q_6, hq_7, hm_8, hc_9⟩ : ∃ e, (S.Wt)[k]? = some e ∧ e.2.1 < mN X ∧ zCg S _ e := ⟨_, List.getElem?_eq_getElem (by omega), hW.1.2 _ (List.getElem_mem _), hY.wt _ (List.getElem_mem _)⟩
        have hg_5r : r = some q_6.1 := by rw [hg_5]; exact Option.some.inj ((List.getElem?_eq_getElem _).symm.trans (by rw [List.getElem?_map, hq_7]; rfl))
        clear hg_5
        subst hg_5r
        refine zm_top (v' := .ref q_6.1) rfl ?_
        refine va_castS hx hb hown (hts _ q248) (hK.1.1 8 _ rfl).2 (zt_recv hK.1 hT hc_9 (r := zCl[8]) rfl) dX1_hasTime_24 ?_
        refine zt_getN hx hb hts in_X9 hown hK.1 hT hc_9 rfl 1 (by decide) (va_Nw.use (A := args) rfl (hK.2.1.1 _ _ _ _ _ _ q901)) (fun _ h => h) rfl dX1_hasTime_27 ?_
        refine lv_iload_n hx hb dX1_hasTime_30 rfl (lv_at hl 3 rfl) ?_
        refine lv_icmp_ne (tgt := 38) hx hb dX1_hasTime_31 (by decide) (fun c_10 => ?_) (fun c_10 => ?_)
        · refine lv_iconst (v := 0) hx hb dX1_hasTime_38 (by decide) ?_
          refine lv_ior hx hb dX1_hasTime_39 ?_
          refine zm_topi (y := zb (zLa S.Wt (fun e => decide (e.2.2 = tm)) (k + 1))) (by rw [zLa_s hq_7, ← zb_ior]; congr 1; exact (zb_f (decide_eq_false c_10)).symm) ?_
          refine lv_istore_n (lv' := [(2, .int (zb (zLa S.Wt (fun e => decide (e.2.2 = tm)) (k + 1)))), (3, .int (nI k)), (0, .ref (S.A 0)), (1, .int tm)]) hx hb dX1_hasTime_40 rfl hl (by decide) rfl (fun ls hl => ?_)
          refine lv_iinc (v := nI (k + 1)) (lv' := [(3, .int (nI (k + 1))), (2, .int (zb (zLa S.Wt (fun e => decide (e.2.2 = tm)) (k + 1)))), (0, .ref (S.A 0)), (1, .int tm)]) hx hb dX1_hasTime_41 hl (k := 1) rfl (nI_1 k) (by decide) rfl (fun ls hl => ?_)
          refine lv_goto (tgt := 4) hx hb dX1_hasTime_44 (by decide) ?_
          exact ih_3 (k + 1) (by omega) (by omega) _ _ _ hT hS (lv_sub hl [0, 1, 2, 3] rfl)
        · refine lv_iconst (v := 1) hx hb dX1_hasTime_34 (by decide) ?_
          refine lv_goto (tgt := 39) hx hb dX1_hasTime_35 (by decide) ?_
          refine lv_ior hx hb dX1_hasTime_39 ?_
          refine zm_topi (y := zb (zLa S.Wt (fun e => decide (e.2.2 = tm)) (k + 1))) (by rw [zLa_s hq_7, ← zb_ior]; congr 1; exact (zb_t (decide_eq_true c_10)).symm) ?_
          refine lv_istore_n (lv' := [(2, .int (zb (zLa S.Wt (fun e => decide (e.2.2 = tm)) (k + 1)))), (3, .int (nI k)), (0, .ref (S.A 0)), (1, .int tm)]) hx hb dX1_hasTime_40 rfl hl (by decide) rfl (fun ls hl => ?_)
          refine lv_iinc (v := nI (k + 1)) (lv' := [(3, .int (nI (k + 1))), (2, .int (zb (zLa S.Wt (fun e => decide (e.2.2 = tm)) (k + 1)))), (0, .ref (S.A 0)), (1, .int tm)]) hx hb dX1_hasTime_41 hl (k := 1) rfl (nI_1 k) (by decide) rfl (fun ls hl => ?_)
          refine lv_goto (tgt := 4) hx hb dX1_hasTime_44 (by decide) ?_
          exact ih_3 (k + 1) (by omega) (by omega) _ _ _ hT hS (lv_sub hl [0, 1, 2, 3] rfl)
  exact L_2 ((S.Wt.length + 1 - 0) + 1) 0 (Nat.lt_succ_self _) (Nat.zero_le _) _ _ _ hT hS (lv_sub hl [0, 1, 2, 3] rfl)
