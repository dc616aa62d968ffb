theorem zn_X4_places : zN yX4_places 1 := by decide +kernel
set_option maxHeartbeats 4000000 in
theorem ct_X4_places (l : Launch) (g : zG) (A : Nat → Prop) (S : zS) (X : zX) (T : zT) (hY : zSy S g X T) (hI : MH X) (i : Nat) (hi : i < mN X) (of : Int32) : Met l yX4_places (ws_ yX4_places cX4_places 2 (some .int)) (zR 1 0 0) (zP [.ref (S.pa i), .int of] g A (zTH g A T)) (va_Qi (fun rz_ (_ : Unit) => rz_ = mPl (X 2 i) of) (fun (_ : Unit) t => zTH g A T t.heap) A) 0 0 A := by
  refine zb_met (by decide) (Nat.le_of_ble_eq_true rfl) ?_
  intro p e s m args below meth c ls hx hb hr hml hown hts hlocks hnm hK hT ha_ hl
  have hown : s.vm.findClass RX4 = some m.cls := hown
  have hS : va_S A s.heap s.heap [] := va_S.rf
  have hl : lv_has ls 2 [(0, .ref (S.pa i)), (1, .int of)] := hl
  refine lv_aload_n hx hb dX4_places_0 rfl (lv_at hl 0 rfl) ?_
  refine zt_get hx hb hts in_X4 hown hK.1 hT (hY.p hi) rfl 1 (by decide) (hts _ q384) (fun _ h => h) rfl dX4_places_1 ?_
  have hk := (hI.2.1 i hi).1
  have hk4 := (hI.2.1 i hi).2
  rcases (show mK X i = 0 ∨ mK X i = 1 ∨ mK X i = 2 ∨ mK X i = 3 ∨ mK X i = 4 by omega) with hkk | hkk | hkk | hkk | hkk
  · rw [hkk] at hk
    refine zm_topi (y := nI 0) hk ?_
    refine lv_tableIn (x := nI 0) (off := 28) (tgt := 32) hx hb dX4_places_4 (by decide) (by decide) rfl (by decide) ?_
    refine lv_iload_n hx hb dX4_places_32 rfl (lv_at hl 1 rfl) ?_
    refine lv_iconst (v := 1) hx hb dX4_places_33 (by decide) ?_
    refine lv_icmp_ne (tgt := 41) hx hb dX4_places_34 (by decide) (fun c_1 => ?_) (fun c_1 => ?_)
    · refine lv_iconst (v := 0) hx hb dX4_places_41 (by decide) ?_
      refine lv_goto (tgt := 81) hx hb dX4_places_42 (by decide) ?_
      exact ze_i hx hb hr hlocks hS dX4_places_81 (by show _ ≤ 0; omega) (by show _ ≤ 0; omega) () (by rw [hk, mPl_0]; first | rfl | simp [c_1]) hT
    · refine lv_iconst (v := 2) hx hb dX4_places_37 (by decide) ?_
      refine lv_goto (tgt := 81) hx hb dX4_places_38 (by decide) ?_
      exact ze_i hx hb hr hlocks hS dX4_places_81 (by show _ ≤ 0; omega) (by show _ ≤ 0; omega) () (by rw [hk, mPl_0]; first | rfl | simp [c_1]) hT
  · rw [hkk] at hk
    refine zm_topi (y := nI 1) hk ?_
    refine lv_tableIn (x := nI 1) (off := 41) (tgt := 45) hx hb dX4_places_4 (by decide) (by decide) rfl (by decide) ?_
    refine lv_iload_n hx hb dX4_places_45 rfl (lv_at hl 1 rfl) ?_
    refine lv_iconst (v := 2) hx hb dX4_places_46 (by decide) ?_
    refine lv_icmp_ne (tgt := 54) hx hb dX4_places_47 (by decide) (fun c_2 => ?_) (fun c_2 => ?_)
    · refine lv_iconst (v := 0) hx hb dX4_places_54 (by decide) ?_
      refine lv_goto (tgt := 81) hx hb dX4_places_55 (by decide) ?_
      exact ze_i hx hb hr hlocks hS dX4_places_81 (by show _ ≤ 0; omega) (by show _ ≤ 0; omega) () (by rw [hk, mPl_1]; first | rfl | simp [c_2]) hT
    · refine lv_iconst (v := 2) hx hb dX4_places_50 (by decide) ?_
      refine lv_goto (tgt := 81) hx hb dX4_places_51 (by decide) ?_
      exact ze_i hx hb hr hlocks hS dX4_places_81 (by show _ ≤ 0; omega) (by show _ ≤ 0; omega) () (by rw [hk, mPl_1]; first | rfl | simp [c_2]) hT
  · rw [hkk] at hk
    refine zm_topi (y := nI 2) hk ?_
    refine lv_tableIn (x := nI 2) (off := 54) (tgt := 58) hx hb dX4_places_4 (by decide) (by decide) rfl (by decide) ?_
    refine lv_iload_n hx hb dX4_places_58 rfl (lv_at hl 1 rfl) ?_
    refine lv_iconst (v := 3) hx hb dX4_places_59 (by decide) ?_
    refine lv_icmp_ne (tgt := 67) hx hb dX4_places_60 (by decide) (fun c_3 => ?_) (fun c_3 => ?_)
    · refine lv_iload_n hx hb dX4_places_67 rfl (lv_at hl 1 rfl) ?_
      refine lv_iconst (v := 4) hx hb dX4_places_68 (by decide) ?_
      refine lv_icmp_ne (tgt := 76) hx hb dX4_places_69 (by decide) (fun c_4 => ?_) (fun c_4 => ?_)
      · refine lv_iconst (v := 0) hx hb dX4_places_76 (by decide) ?_
        refine lv_goto (tgt := 81) hx hb dX4_places_77 (by decide) ?_
        exact ze_i hx hb hr hlocks hS dX4_places_81 (by show _ ≤ 0; omega) (by show _ ≤ 0; omega) () (by rw [hk, mPl_2]; first | rfl | simp [c_3, c_4]) hT
      · refine lv_iconst (v := 1) hx hb dX4_places_72 (by decide) ?_
        refine lv_goto (tgt := 81) hx hb dX4_places_73 (by decide) ?_
        exact ze_i hx hb hr hlocks hS dX4_places_81 (by show _ ≤ 0; omega) (by show _ ≤ 0; omega) () (by rw [hk, mPl_2]; first | rfl | simp [c_3, c_4]) hT
    · refine lv_iconst (v := 2) hx hb dX4_places_63 (by decide) ?_
      refine lv_goto (tgt := 81) hx hb dX4_places_64 (by decide) ?_
      exact ze_i hx hb hr hlocks hS dX4_places_81 (by show _ ≤ 0; omega) (by show _ ≤ 0; omega) () (by rw [hk, mPl_2]; first | rfl | simp [c_3]) hT
  · rw [hkk] at hk
    refine zm_topi (y := nI 3) hk ?_
    refine lv_tableOut (x := nI 3) (tgt := 80) hx hb dX4_places_4 (by decide) (by decide) ?_
    refine lv_iconst (v := 0) hx hb dX4_places_80 (by decide) ?_
    exact ze_i hx hb hr hlocks hS dX4_places_81 (by show _ ≤ 0; omega) (by show _ ≤ 0; omega) () (by rw [hk, mPl_3]) hT
  · rw [hkk] at hk
    refine zm_topi (y := nI 4) hk ?_
    refine lv_tableOut (x := nI 4) (tgt := 80) hx hb dX4_places_4 (by decide) (by decide) ?_
    refine lv_iconst (v := 0) hx hb dX4_places_80 (by decide) ?_
    exact ze_i hx hb hr hlocks hS dX4_places_81 (by show _ ≤ 0; omega) (by show _ ≤ 0; omega) () (by rw [hk, mPl_4]) hT
theorem zn_X4_isInStore : zN yX4_isInStore 0 := by decide +kernel
set_option maxHeartbeats 4000000 in
theorem ct_X4_isInStore (l : Launch) (g : zG) (A : Nat → Prop) (S : zS) (X : zX) (T : zT) (hY : zSy S g X T) (hI : MH X) (i : Nat) (hi : i < mN X) : Met l yX4_isInStore (ws_ yX4_isInStore cX4_isInStore 1 (some .boolean)) (zR 1 0 0) (zP [.ref (S.pa i)] g A (zTH g A T)) (va_Qi (fun rz_ (_ : Unit) => rz_ = zb (decide (X 5 i = -1))) (fun (_ : Unit) t => zTH g A T t.heap) A) 0 0 A := by
  refine zb_met (by decide) (Nat.le_of_ble_eq_true rfl) ?_
  intro p e s m args below meth c ls hx hb hr hml hown hts hlocks hnm hK hT ha_ hl
  have hown : s.vm.findClass RX4 = some m.cls := hown
  have hS : va_S A s.heap s.heap [] := va_S.rf
  have hl : lv_has ls 1 [(0, .ref (S.pa i))] := hl
  refine lv_aload_n hx hb dX4_isInStore_0 rfl (lv_at hl 0 rfl) ?_
  refine zt_get hx hb hts in_X4 hown hK.1 hT (hY.p hi) rfl 4 (by decide) (hts _ q390) (fun _ h => h) rfl dX4_isInStore_1 ?_
  refine zt_getN hx hb hts in_X5 hown hK.1 hT (hY.t hi) rfl 1 (by decide) (va_Nw.use (A := args) rfl (hK.2.1.1 _ _ _ _ _ _ q373)) (fun _ h => h) rfl dX4_isInStore_4 ?_
  rcases Classical.em (X 5 i < 0) with hn | hn
  · refine zm_top (v' := .null) (by unfold znw; rw [if_pos hn]; rfl) ?_
    refine lv_ifnonnullN hx hb dX4_isInStore_7 ?_
    refine lv_aload_n hx hb dX4_isInStore_10 rfl (lv_at hl 0 rfl) ?_
    refine zt_get hx hb hts in_X4 hown hK.1 hT (hY.p hi) rfl 6 (by decide) (hts _ q394) (fun _ h => h) rfl dX4_isInStore_11 ?_
    refine zl_ifne (tgt := 21) hx hb dX4_isInStore_14 (by decide) (fun c_1 => ?_) (fun c_1 => ?_)
    · refine lv_iconst (v := 0) hx hb dX4_isInStore_21 (by decide) ?_
      exact ze_z hx hb hr hlocks hS dX4_isInStore_22 (by show _ ≤ 0; omega) (by show _ ≤ 0; omega) (Or.inl rfl) () (by have h : X 5 i = -2 := of_decide_eq_true c_1; exact (zb_f (decide_eq_false (by rw [h]; decide))).symm) hT
    · refine lv_iconst (v := 1) hx hb dX4_isInStore_17 (by decide) ?_
      refine lv_goto (tgt := 22) hx hb dX4_isInStore_18 (by decide) ?_
      exact ze_z hx hb hr hlocks hS dX4_isInStore_22 (by show _ ≤ 0; omega) (by show _ ≤ 0; omega) (Or.inr rfl) () (by exact (hI.low hi hn).elim (fun h => (zb_t (decide_eq_true h)).symm) (fun h => absurd h (of_decide_eq_false c_1))) hT
  · obtain ⟨hh1, hh2, hh3⟩ := hI.host hi hn
    refine zm_top (v' := .ref (S.pa (mH X i))) (by unfold znw; rw [if_neg hn]; rfl) ?_
    refine lv_ifnonnull (tgt := 21) hx hb dX4_isInStore_7 (by decide) ?_
    refine lv_iconst (v := 0) hx hb dX4_isInStore_21 (by decide) ?_
    exact ze_z hx hb hr hlocks hS dX4_isInStore_22 (by show _ ≤ 0; omega) (by show _ ≤ 0; omega) (Or.inl rfl) () (by exact (zb_f (decide_eq_false (fun h => hn (by rw [h]; decide)))).symm) hT
theorem zn_X4_head : zN yX4_head 0 := by decide +kernel
set_option maxHeartbeats 4000000 in
theorem ct_X4_head (l : Launch) (g : zG) (A : Nat → Prop) (S : zS) (X : zX) (T : zT) (hY : zSy S g X T) (hI : MH X) (i : Nat) (hi : i < mN X) : Met l yX4_head (ws_ yX4_head cX4_head 2 (some (.object "WheelWorks$Part"))) (zR 1 0 0) (zP [.ref (S.pa i)] g A (zTH g A T)) (va_Qq (fun rz_ (_ : Unit) => rz_ = some (S.pa (mHd X i))) (fun (_ : Unit) t => zTH g A T t.heap) A) 0 0 A := by
  refine zb_met (by decide) (Nat.le_of_ble_eq_true rfl) ?_
  intro p e s m args below meth c ls hx hb hr hml hown hts hlocks hnm hK hT ha_ hl
  have hown : s.vm.findClass RX4 = some m.cls := hown
  have hS : va_S A s.heap s.heap [] := va_S.rf
  have hl : lv_has ls 2 [(0, .ref (S.pa i))] := hl
  refine lv_aload_n hx hb dX4_head_0 rfl (lv_at hl 0 rfl) ?_
  refine lv_astore_n (lv' := [(1, .ref (S.pa i)), (0, .ref (S.pa i))]) hx hb dX4_head_1 rfl hl (by decide) rfl (fun ls hl => ?_)
  have L_2 : ∀ (n_1 : Nat) (h : Nat) (k : Nat), k < n_1 → (h < mN X) → (mHf X k h = mHd X i) → (mK X h < k) → ∀ (H : Heap) (locs : List Loc) (ls : Array Slot), zTH g A T H → va_S A s.heap H locs → lv_has ls 2 [(1, .ref (S.pa h)), (0, .ref (S.pa i))] → W p l e (zR 1 0 0) s m args below meth c H locs 0 0 (MQ below (va_Qq (fun rz_ (_ : Unit) => rz_ = some (S.pa (mHd X i))) (fun (_ : Unit) t => zTH g A T t.heap) A) args s 0 0 A) (F0 m 2 ls []) := by
    intro n_1
    induction n_1 with
    | zero => intro h k hm; exact absurd hm (Nat.not_lt_zero _)
    | succ n_1 ih =>
      intro h k hm hh hf hk H locs ls hT hS hl
      have ih_3 := ih
      obtain ⟨k, rfl⟩ : ∃ j, k = j + 1 := ⟨k - 1, by omega⟩
      unfold mHf at hf
      refine lv_aload_n hx hb dX4_head_2 rfl (lv_at hl 0 rfl) ?_
      refine zt_get hx hb hts in_X4 hown hK.1 hT (hY.p hh) rfl 4 (by decide) (hts _ q390) (fun _ h => h) rfl dX4_head_3 ?_
      refine zt_getN hx hb hts in_X5 hown hK.1 hT (hY.t hh) rfl 1 (by decide) (va_Nw.use (A := args) rfl (hK.2.1.1 _ _ _ _ _ _ q373)) (fun _ h => h) rfl dX4_head_6 ?_
      rcases Classical.em (X 5 h < 0) with hn | hn
      · refine zm_top (v' := .null) (by unfold znw; rw [if_pos hn]; rfl) ?_
        rw [if_pos hn] at hf
        refine lv_ifnullN (tgt := 26) hx hb dX4_head_9 (by decide) ?_
        refine lv_aload_n hx hb dX4_head_26 rfl (lv_at hl 0 rfl) ?_
        exact ze_q (v := some (S.pa h)) hx hb hr (Or.inl ⟨_, rfl⟩) hlocks hS dX4_head_27 (by show _ ≤ 0; omega) (by show _ ≤ 0; omega) () (by rw [hf]) hT
      · obtain ⟨hh1, hh2, hh3⟩ := hI.host hh hn
        refine zm_top (v' := .ref (S.pa (mH X h))) (by unfold znw; rw [if_neg hn]; rfl) ?_
        rw [if_neg hn] at hf
        refine lv_ifnull hx hb dX4_head_9 ?_
        refine lv_aload_n hx hb dX4_head_12 rfl (lv_at hl 0 rfl) ?_
        refine zt_get hx hb hts in_X4 hown hK.1 hT (hY.p hh) rfl 4 (by decide) (hts _ q390) (fun _ h => h) rfl dX4_head_13 ?_
        refine zt_getN hx hb hts in_X5 hown hK.1 hT (hY.t hh) rfl 1 (by decide) (va_Nw.use (A := args) rfl (hK.2.1.1 _ _ _ _ _ _ q373)) (fun _ h => h) rfl dX4_head_16 ?_
        refine zm_top (v' := .ref (S.pa (mH X h))) (by unfold znw; rw [if_neg hn]; rfl) ?_
        refine va_castS hx hb hown (hts _ q555) (hK.1.1 3 _ rfl).2 (zt_recv hK.1 hT (hY.p hh2) (r := zCl[3]) rfl) dX4_head_19 ?_
        refine lv_astore_n (lv' := [(1, .ref (S.pa (mH X h))), (0, .ref (S.pa i))]) hx hb dX4_head_22 rfl hl (by decide) rfl (fun ls hl => ?_)
        refine lv_goto (tgt := 2) hx hb dX4_head_23 (by decide) ?_
        exact ih_3 (mH X h) k (by omega) hh2 hf (by omega) _ _ _ hT hS (lv_sub hl [0, 1] rfl)
  exact L_2 (5 + 1) i 5 (Nat.lt_succ_self _) hi rfl (Nat.lt_succ_of_le (hI.2.1 _ hi).2) _ _ _ hT hS (lv_sub hl [0, 1] rfl)
theorem zn_X4_isBound : zN yX4_isBound 0 := by decide +kernel
set_option maxHeartbeats 4000000 in
theorem ct_X4_isBound (l : Launch) (g : zG) (A : Nat → Prop) (S : zS) (X : zX) (T : zT) (hY : zSy S g X T) (hI : MH X) (i : Nat) (hi : i < mN X) (hz12 : ∀ p, X 12 p = 0 ∨ X 12 p = 1) : Met l yX4_isBound (ws_ yX4_isBound cX4_isBound 1 (some .boolean)) (zR 2 0 0) (zP [.ref (S.pa i)] g A (zTH g A T)) (va_Qi (fun rz_ (_ : Unit) => rz_ = X 12 (mHd X i)) (fun (_ : Unit) t => zTH g A T t.heap) A) 0 0 A := by
  refine zb_met (by decide) (Nat.le_of_ble_eq_true rfl) ?_
  intro p e s m args below meth c ls hx hb hr hml hown hts hlocks hnm hK hT ha_ hl
  have hown : s.vm.findClass RX4 = some m.cls := hown
  have hS : va_S A s.heap s.heap [] := va_S.rf
  have hl : lv_has ls 1 [(0, .ref (S.pa i))] := hl
  refine lv_aload_n hx hb dX4_isBound_0 rfl (lv_at hl 0 rfl) ?_
  refine zc_q (zr_V (As := []) (rest := []) ⟨hx, hb, hml, hown, hts⟩ (ct_X4_head l g A S X _ hY hI i hi) zn_X4_head (lw_V q551 q552 q553 q54 q554) rfl (by decide) (by decide) hK (fun _ h => h) hS hT (zt_recv hK.1 hT (hY.p hi) rfl) rfl hl.1 (Nat.le_of_ble_eq_true rfl) dX4_isBound_1 ⟨by show _ + 0 ≤ _; omega, by show _ + 0 ≤ _; omega⟩) hS (fun _ h => h) (fun r _ H locs hr_1 hT _ _ hS => ?_)
  subst hr_1
  refine zm_top (v' := .ref (S.pa (mHd X i))) rfl ?_
  have hm_2 : mHd X i < mN X := mHd_lt hI hi
  refine zt_get hx hb hts in_X4 hown hK.1 hT (hY.p hm_2) rfl 19 (by decide) (hts _ q418) (fun _ h => h) rfl dX4_isBound_4 ?_
  exact ze_z hx hb hr hlocks hS dX4_isBound_7 (by show _ ≤ 0; omega) (by show _ ≤ 0; omega) (hz12 _) () (by rfl) hT
theorem zn_X4_count : zN yX4_count 1 := by decide +kernel
set_option maxHeartbeats 4000000 in
theorem ct_X4_count (l : Launch) (g : zG) (A : Nat → Prop) (S : zS) (X : zX) (T : zT) (hY : zSy S g X T) (hC : zKo S X) (i : Nat) (hi : i < mN X) (of : Int32) : Met l yX4_count (ws_ yX4_count cX4_count 4 (some .int)) (zR 4 0 0) (zP [.ref (S.pa i), .int of] g A (zTH g A T)) (va_Qi (fun rz_ (_ : Unit) => rz_ = nI ((S.K i).countP (fun q => decide (X 2 q = of)))) (fun (_ : Unit) t => zTH g A T t.heap) A) 0 0 A := by
  refine zb_met (by decide) (Nat.le_of_ble_eq_true rfl) ?_
  intro p e s m args below meth c ls hx hb hr hml hown hts hlocks hnm hK hT ha_ hl
  have hown : s.vm.findClass RX4 = some m.cls := hown
  have hS : va_S A s.heap s.heap [] := va_S.rf
  have hl : lv_has ls 4 [(0, .ref (S.pa i)), (1, .int of)] := hl
  have hlen := (hC i hi).1
  refine lv_iconst (v := 0) hx hb dX4_count_0 (by decide) ?_
  refine lv_istore_n (lv' := [(2, .int 0), (0, .ref (S.pa i)), (1, .int of)]) hx hb dX4_count_1 rfl hl (by decide) rfl (fun ls hl => ?_)
  refine lv_iconst (v := 0) hx hb dX4_count_2 (by decide) ?_
  refine lv_istore_n (lv' := [(3, .int 0), (2, .int 0), (0, .ref (S.pa i)), (1, .int of)]) hx hb dX4_count_3 rfl hl (by decide) rfl (fun ls hl => ?_)
  have L_2 : ∀ (n_1 : Nat) (k : Nat), ((S.K i).length + 1 - k) < n_1 → (k ≤ (S.K i).length) → ∀ (H : Heap) (locs : List Loc) (ls : Array Slot), zTH g A T H → va_S A s.heap H locs → lv_has ls 4 [(3, .int (nI k)), (2, .int (nI (zcK (S.K i) (fun q => decide (X 2 q = of)) k))), (0, .ref (S.pa i)), (1, .int of)] → W p l e (zR 4 0 0) s m args below meth c H locs 0 0 (MQ below (va_Qi (fun rz_ (_ : Unit) => rz_ = nI ((S.K i).countP (fun q => decide (X 2 q = of)))) (fun (_ : Unit) t => zTH g A T t.heap) A) args s 0 0 A) (F0 m 4 ls []) := by
    intro n_1
    induction n_1 with
    | zero => intro k hm; exact absurd hm (Nat.not_lt_zero _)
    | succ n_1 ih =>
      intro k hm hk H locs ls hT hS hl
      have ih_3 := ih
      refine lv_iload_n hx hb dX4_count_4 rfl (lv_at hl 0 rfl) ?_
      refine lv_aload_n hx hb dX4_count_5 rfl (lv_at hl 2 rfl) ?_
      refine zt_get hx hb hts in_X4 hown hK.1 hT (hY.p hi) rfl 5 (by decide) (hts _ q392) (fun _ h => h) rfl dX4_count_6 ?_
      refine zc_i (zr_V (As := []) (rest := [.int (nI k)]) ⟨hx, hb, hml, hown, hts⟩ (ct_J2_size l g A T _ (S.mu (23 + 4 * i)) _ (hY.k hi)) zn_J2_size (lw_V q560 q226 q227 q43 q228) rfl (by decide) (by decide) hK (fun _ h => h) hS hT (zt_recvL hK.1 hT (hY.k hi)) rfl hl.1 (Nat.le_of_ble_eq_true rfl) dX4_count_9 ⟨by show _ + 0 ≤ _; omega, by show _ + 0 ≤ _; omega⟩) hS (fun _ h => h) (fun r _ H locs hr1 hT _ _ hS => ?_)
      subst hr1
      refine zm_topi (y := nI ((S.K i).length)) (by simp) ?_
      refine zl_ge (tgt := 47) (a := k) (b := (S.K i).length) hx hb (by first | decide | omega) (by first | decide | omega) dX4_count_12 (by decide) (fun c_4 => ?_) (fun c_4 => ?_)
      · refine lv_iload_n hx hb dX4_count_47 rfl (lv_at hl 1 rfl) ?_
        exact ze_i hx hb hr hlocks hS dX4_count_48 (by show _ ≤ 0; omega) (by show _ ≤ 0; omega) () (by rw [zcK_t (by omega)]) hT
      · refine lv_iload_n hx hb dX4_count_15 rfl (lv_at hl 1 rfl) ?_
        refine lv_aload_n hx hb dX4_count_16 rfl (lv_at hl 2 rfl) ?_
        refine zt_get hx hb hts in_X4 hown hK.1 hT (hY.p hi) rfl 5 (by decide) (hts _ q392) (fun _ h => h) rfl dX4_count_17 ?_
        refine lv_iload_n hx hb dX4_count_20 rfl (lv_at hl 0 rfl) ?_
        refine zc_q (zr_V (As := [.int (nI k)]) (rest := [.int (nI (zcK (S.K i) (fun q => decide (X 2 q = of)) k))]) ⟨hx, hb, hml, hown, hts⟩ (ct_J2_get l g A T _ (S.mu (23 + 4 * i)) _ (hY.k hi) k (by simpa using (show k < (S.K i).length from by omega))) zn_J2_get (lw_V q561 q235 q236 q43 q237) rfl (by decide) (by decide) hK (fun _ h => h) hS hT (zt_recvL hK.1 hT (hY.k hi)) rfl hl.1 (Nat.le_of_ble_eq_true rfl) dX4_count_21 ⟨by show _ + 0 ≤ _; omega, by show _ + 0 ≤ _; omega⟩) hS (fun _ h => h) (fun r _ H locs hg_5 hT _ _ hS => ?_)
        obtain ⟨q_6, hq_7, hm_8⟩ : ∃ q, (S.K i)[k]? = some q ∧ q < mN X := ⟨_, List.getElem?_eq_getElem (by omega), (hC _ hi).2 _ (List.getElem_mem _)⟩
        have hg_5r : r = some (S.pa q_6) := by rw [hg_5]; exact Option.some.inj ((List.getElem?_eq_getElem _).symm.trans (by rw [List.getElem?_map, hq_7]; rfl))
        clear hg_5
        subst hg_5r
        refine zm_top (v' := .ref (S.pa q_6)) rfl ?_
        refine va_castS hx hb hown (hts _ q555) (hK.1.1 3 _ rfl).2 (zt_recv hK.1 hT (hY.p hm_8) (r := zCl[3]) rfl) dX4_count_24 ?_
        refine zt_get hx hb hts in_X4 hown hK.1 hT (hY.p hm_8) rfl 1 (by decide) (hts _ q384) (fun _ h => h) rfl dX4_count_27 ?_
        refine lv_iload_n hx hb dX4_count_30 rfl (lv_at hl 3 rfl) ?_
        refine lv_icmp_ne (tgt := 38) hx hb dX4_count_31 (by decide) (fun c_9 => ?_) (fun c_9 => ?_)
        · refine lv_iconst (v := 0) hx hb dX4_count_38 (by decide) ?_
          refine lv_iadd hx hb dX4_count_39 ?_
          refine zm_topi (y := nI (zcK (S.K i) (fun q => decide (X 2 q = of)) (k + 1))) (by rw [zcK_s hq_7, if_neg (by rw [decide_eq_false c_9]; decide)]; simp) ?_
          refine lv_istore_n (lv' := [(2, .int (nI (zcK (S.K i) (fun q => decide (X 2 q = of)) (k + 1)))), (3, .int (nI k)), (0, .ref (S.pa i)), (1, .int of)]) hx hb dX4_count_40 rfl hl (by decide) rfl (fun ls hl => ?_)
          refine lv_iinc (v := nI (k + 1)) (lv' := [(3, .int (nI (k + 1))), (2, .int (nI (zcK (S.K i) (fun q => decide (X 2 q = of)) (k + 1)))), (0, .ref (S.pa i)), (1, .int of)]) hx hb dX4_count_41 hl (k := 1) rfl (nI_1 k) (by decide) rfl (fun ls hl => ?_)
          refine lv_goto (tgt := 4) hx hb dX4_count_44 (by decide) ?_
          exact ih_3 (k + 1) (by omega) (by omega) _ _ _ hT hS (lv_sub hl [0, 1, 2, 3] rfl)
        · refine lv_iconst (v := 1) hx hb dX4_count_34 (by decide) ?_
          refine lv_goto (tgt := 39) hx hb dX4_count_35 (by decide) ?_
          refine lv_iadd hx hb dX4_count_39 ?_
          refine zm_topi (y := nI (zcK (S.K i) (fun q => decide (X 2 q = of)) k + 1)) (nI_1 (zcK (S.K i) (fun q => decide (X 2 q = of)) k)) ?_
          refine zm_topi (y := nI (zcK (S.K i) (fun q => decide (X 2 q = of)) (k + 1))) (by rw [zcK_s hq_7, if_pos (decide_eq_true c_9)]) ?_
          refine lv_istore_n (lv' := [(2, .int (nI (zcK (S.K i) (fun q => decide (X 2 q = of)) (k + 1)))), (3, .int (nI k)), (0, .ref (S.pa i)), (1, .int of)]) hx hb dX4_count_40 rfl hl (by decide) rfl (fun ls hl => ?_)
          refine lv_iinc (v := nI (k + 1)) (lv' := [(3, .int (nI (k + 1))), (2, .int (nI (zcK (S.K i) (fun q => decide (X 2 q = of)) (k + 1)))), (0, .ref (S.pa i)), (1, .int of)]) hx hb dX4_count_41 hl (k := 1) rfl (nI_1 k) (by decide) rfl (fun ls hl => ?_)
          refine lv_goto (tgt := 4) hx hb dX4_count_44 (by decide) ?_
          exact ih_3 (k + 1) (by omega) (by omega) _ _ _ hT hS (lv_sub hl [0, 1, 2, 3] rfl)
  exact L_2 (((S.K i).length + 1 - 0) + 1) 0 (Nat.lt_succ_self _) (Nat.zero_le _) _ _ _ hT hS (lv_sub hl [0, 1, 2, 3] rfl)
theorem zn_X4_isWorn : zN yX4_isWorn 0 := by decide +kernel
set_option maxHeartbeats 4000000 in
theorem ct_X4_isWorn (l : Launch) (g : zG) (A : Nat → Prop) (S : zS) (X : zX) (T : zT) (hY : zSy S g X T) (hI : MH X) (i : Nat) (hi : i < mN X) : Met l yX4_isWorn (ws_ yX4_isWorn cX4_isWorn 1 (some .boolean)) (zR 1 0 0) (zP [.ref (S.pa i)] g A (zTH g A T)) (va_Qi (fun rz_ (_ : Unit) => rz_ = zb (mWn X i)) (fun (_ : Unit) t => zTH g A T t.heap) A) 0 0 A := by
  refine zb_met (by decide) (Nat.le_of_ble_eq_true rfl) ?_
  intro p e s m args below meth c ls hx hb hr hml hown hts hlocks hnm hK hT ha_ hl
  have hown : s.vm.findClass RX4 = some m.cls := hown
  have hS : va_S A s.heap s.heap [] := va_S.rf
  have hl : lv_has ls 1 [(0, .ref (S.pa i))] := hl
  refine lv_aload_n hx hb dX4_isWorn_0 rfl (lv_at hl 0 rfl) ?_
  refine zt_get hx hb hts in_X4 hown hK.1 hT (hY.p hi) rfl 1 (by decide) (hts _ q384) (fun _ h => h) rfl dX4_isWorn_1 ?_
  refine lv_iconst (v := 3) hx hb dX4_isWorn_4 (by decide) ?_
  refine lv_icmp_ne (tgt := 32) hx hb dX4_isWorn_5 (by decide) (fun c_1 => ?_) (fun c_1 => ?_)
  · refine lv_iconst (v := 0) hx hb dX4_isWorn_32 (by decide) ?_
    exact ze_z hx hb hr hlocks hS dX4_isWorn_33 (by show _ ≤ 0; omega) (by show _ ≤ 0; omega) (Or.inl rfl) () (by simp [mWn, zb, c_1]) hT
  · refine lv_aload_n hx hb dX4_isWorn_8 rfl (lv_at hl 0 rfl) ?_
    refine zt_get hx hb hts in_X4 hown hK.1 hT (hY.p hi) rfl 14 (by decide) (hts _ q409) (fun _ h => h) rfl dX4_isWorn_9 ?_
    refine lv_sipush (v := 8500) hx hb dX4_isWorn_12 (by decide) ?_
    refine lv_icmp_lt (tgt := 28) hx hb dX4_isWorn_15 (by decide) (fun c_2 => ?_) (fun c_2 => ?_)
    · refine lv_iconst (v := 1) hx hb dX4_isWorn_28 (by decide) ?_
      refine lv_goto (tgt := 33) hx hb dX4_isWorn_29 (by decide) ?_
      exact ze_z hx hb hr hlocks hS dX4_isWorn_33 (by show _ ≤ 0; omega) (by show _ ≤ 0; omega) (Or.inr rfl) () (by simp [mWn, zb, c_1, c_2]) hT
    · refine lv_aload_n hx hb dX4_isWorn_18 rfl (lv_at hl 0 rfl) ?_
      refine zt_get hx hb hts in_X4 hown hK.1 hT (hY.p hi) rfl 15 (by decide) (hts _ q411) (fun _ h => h) rfl dX4_isWorn_19 ?_
      refine lv_sipush (v := 250) hx hb dX4_isWorn_22 (by decide) ?_
      refine lv_icmp_ge (tgt := 32) hx hb dX4_isWorn_25 (by decide) (fun c_3 => ?_) (fun c_3 => ?_)
      · refine lv_iconst (v := 0) hx hb dX4_isWorn_32 (by decide) ?_
        exact ze_z hx hb hr hlocks hS dX4_isWorn_33 (by show _ ≤ 0; omega) (by show _ ≤ 0; omega) (Or.inl rfl) () (by simp [mWn, zb, c_1, c_2, c_3]) hT
      · refine lv_iconst (v := 1) hx hb dX4_isWorn_28 (by decide) ?_
        refine lv_goto (tgt := 33) hx hb dX4_isWorn_29 (by decide) ?_
        exact ze_z hx hb hr hlocks hS dX4_isWorn_33 (by show _ ≤ 0; omega) (by show _ ≤ 0; omega) (Or.inr rfl) () (by simp [mWn, zb, c_1, c_2, c_3]) hT
