theorem zn_X4_quarantine : zN yX4_quarantine 0 := by decide +kernel
set_option maxHeartbeats 4000000 in
theorem ct_X4_quarantine (l : Launch) (g : zG) (A : Nat → Prop) (S : zS) (X : zX) (T : zT) (hY : zSy S g X T) (hI : MH X) (i : Nat) (hi : i < mN X) : Met l yX4_quarantine (ws_ yX4_quarantine cX4_quarantine 1 none) (zR 2 0 0) (zP [.ref (S.pa i)] g A (zTH g A T)) (va_Qv (fun (T1 : zT) => zSy S g (m_holds X i) T1) (fun T1 t => zTH g A T1 t.heap) A) 0 0 A := by
  refine zb_met (by decide) (Nat.le_of_ble_eq_true rfl) ?_
  intro p e s m args below meth c ls hx hb hr hml hown hts hlocks hnm hK hT ha_ hl
  have hown : s.vm.findClass RX4 = some m.cls := hown
  have hS : va_S A s.heap s.heap [] := va_S.rf
  have hl : lv_has ls 1 [(0, .ref (S.pa i))] := hl
  refine lv_aload_n hx hb dX4_quarantine_0 rfl (lv_at hl 0 rfl) ?_
  refine lv_iconst (v := 1) hx hb dX4_quarantine_1 (by decide) ?_
  refine zt_put hx hb hts in_X4 tyX4 tyX4_ok nmX4 hown hK.1 hT hS (hY.p hi) rfl 10 (by decide) (hts _ q402) (fun _ h => h) rfl (v := .int 1) (tyX4_ok 10 (by decide)) (zm_nz (Or.inr rfl)) rfl (show 10 < 20 from by decide) dX4_quarantine_2 (fun H locs hT hS => ?_)
  obtain ⟨T, hT, hY⟩ : ∃ T1, zTH g A T1 H ∧ zSy S g (zu X 9 i 1) T1 := ⟨_, hT, hY.pw hi 9 1 rfl (zpF_s S X 10 9 i _ (by decide))⟩
  refine lv_aload_n hx hb dX4_quarantine_5 rfl (lv_at hl 0 rfl) ?_
  refine zc_q (zr_V (As := []) (rest := []) ⟨hx, hb, hml, hown, hts⟩ (ct_X4_head l g A S (zu X 9 i 1) _ hY (hI.w 9 i 1 (by decide) (by decide) (by decide)) i hi) zn_X4_head (lw_V q551 q552 q553 q54 q554) rfl (by decide) (by decide) hK (fun _ h => h) hS hT (zt_recv hK.1 hT (hY.p hi) rfl) rfl hl.1 (Nat.le_of_ble_eq_true rfl) dX4_quarantine_6 ⟨by show _ + 0 ≤ _; omega, by show _ + 0 ≤ _; omega⟩) hS (fun _ h => h) (fun r _ H locs hr_1 hT _ _ hS => ?_)
  subst hr_1
  refine zm_top (v' := .ref (S.pa (mHd (zu X 9 i 1) i))) rfl ?_
  have hm_2 : mHd (zu X 9 i 1) i < mN (zu X 9 i 1) := mHd_lt (hI.w 9 i 1 (by decide) (by decide) (by decide)) hi
  refine lv_iconst (v := 0) hx hb dX4_quarantine_9 (by decide) ?_
  refine zt_put hx hb hts in_X4 tyX4 tyX4_ok nmX4 hown hK.1 hT hS (hY.p hm_2) rfl 18 (by decide) (hts _ q417) (fun _ h => h) rfl (v := .int 0) (tyX4_ok 18 (by decide)) (zm_nz (Or.inl rfl)) rfl (show 18 < 20 from by decide) dX4_quarantine_10 (fun H locs hT hS => ?_)
  obtain ⟨T, hT, hY⟩ : ∃ T1, zTH g A T1 H ∧ zSy S g (zu (zu X 9 i 1) 11 (mHd (zu X 9 i 1) i) 0) T1 := ⟨_, hT, hY.pw hm_2 11 0 rfl (zpF_s S (zu X 9 i 1) 18 11 (mHd (zu X 9 i 1) i) _ (by decide))⟩
  have e2 : zu (zu X 9 i 1) 11 (mHd (zu X 9 i 1) i) 0 = m_holds X i := by unfold m_holds m_ends; rfl
  rw [e2] at hY
  exact ze_v hx hb hr hlocks hS dX4_quarantine_13 (Nat.zero_le _) (Nat.zero_le _) T hY hT
theorem zn_X4_turn : zN yX4_turn 0 := by decide +kernel
set_option maxHeartbeats 4000000 in
theorem ct_X4_turn (l : Launch) (g : zG) (A : Nat → Prop) (S : zS) (X : zX) (T : zT) (hY : zSy S g X T) (hI : MH X) (i : Nat) (hi : i < mN X) : Met l yX4_turn (ws_ yX4_turn cX4_turn 2 (some .int)) (zR 1 0 0) (zP [.ref (S.pa i)] g A (zTH g A T)) (va_Qi (fun rz_ (T1 : zT) => rz_ = (m_trues X i).1 ∧ zSy S g (m_trues X i).2 T1) (fun T1 t => zTH g A T1 t.heap) A) 0 0 A := by
  refine zb_met (by decide) (Nat.le_of_ble_eq_true rfl) ?_
  intro p e s m args below meth c ls hx hb hr hml hown hts hlocks hnm hK hT ha_ hl
  have hown : s.vm.findClass RX4 = some m.cls := hown
  have hS : va_S A s.heap s.heap [] := va_S.rf
  have hl : lv_has ls 2 [(0, .ref (S.pa i))] := hl
  refine lv_iconst (v := 2) hx hb dX4_turn_0 (by decide) ?_
  refine lv_sipush (v := 300) hx hb dX4_turn_1 (by decide) ?_
  refine lv_aload_n hx hb dX4_turn_4 rfl (lv_at hl 0 rfl) ?_
  refine zt_get hx hb hts in_X4 hown hK.1 hT (hY.p hi) rfl 15 (by decide) (hts _ q411) (fun _ h => h) rfl dX4_turn_5 ?_
  refine lv_isub hx hb dX4_turn_8 ?_
  refine lv_imul hx hb dX4_turn_9 ?_
  refine lv_istore_n (lv' := [(1, .int (2 * (300 - (X 14 i)))), (0, .ref (S.pa i))]) hx hb dX4_turn_10 rfl hl (by decide) rfl (fun ls hl => ?_)
  refine lv_aload_n hx hb dX4_turn_11 rfl (lv_at hl 1 rfl) ?_
  refine lv_dup hx hb dX4_turn_12 rfl ?_
  refine zt_get hx hb hts in_X4 hown hK.1 hT (hY.p hi) rfl 14 (by decide) (hts _ q409) (fun _ h => h) rfl dX4_turn_13 ?_
  refine lv_iload_n hx hb dX4_turn_16 rfl (lv_at hl 0 rfl) ?_
  refine lv_isub hx hb dX4_turn_17 ?_
  refine zt_put hx hb hts in_X4 tyX4 tyX4_ok nmX4 hown hK.1 hT hS (hY.p hi) rfl 14 (by decide) (hts _ q409) (fun _ h => h) rfl (v := .int ((X 13 i) - (2 * (300 - (X 14 i))))) (tyX4_ok 14 (by decide)) rfl rfl (show 14 < 20 from by decide) dX4_turn_18 (fun H locs hT hS => ?_)
  obtain ⟨T, hT, hY⟩ : ∃ T1, zTH g A T1 H ∧ zSy S g (zu X 13 i ((X 13 i) - (2 * (300 - (X 14 i))))) T1 := ⟨_, hT, hY.pw hi 13 ((X 13 i) - (2 * (300 - (X 14 i)))) rfl (zpF_s S X 14 13 i _ (by decide))⟩
  refine lv_aload_n hx hb dX4_turn_21 rfl (lv_at hl 1 rfl) ?_
  refine lv_sipush (v := 300) hx hb dX4_turn_22 (by decide) ?_
  refine zt_put hx hb hts in_X4 tyX4 tyX4_ok nmX4 hown hK.1 hT hS (hY.p hi) rfl 15 (by decide) (hts _ q411) (fun _ h => h) rfl (v := .int 300) (tyX4_ok 15 (by decide)) rfl rfl (show 15 < 20 from by decide) dX4_turn_25 (fun H locs hT hS => ?_)
  obtain ⟨T, hT, hY⟩ : ∃ T1, zTH g A T1 H ∧ zSy S g (zu (zu X 13 i ((X 13 i) - (2 * (300 - (X 14 i))))) 14 i 300) T1 := ⟨_, hT, hY.pw hi 14 300 rfl (zpF_s S (zu X 13 i ((X 13 i) - (2 * (300 - (X 14 i))))) 15 14 i _ (by decide))⟩
  refine lv_iload_n hx hb dX4_turn_28 rfl (lv_at hl 0 rfl) ?_
  exact ze_i hx hb hr hlocks hS dX4_turn_29 (Nat.zero_le _) (Nat.zero_le _) T ⟨rfl, hY⟩ hT
