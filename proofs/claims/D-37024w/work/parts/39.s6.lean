theorem zn_X8_init : zN yX8_init 3 := by decide +kernel
set_option maxHeartbeats 4000000 in
theorem ct_X8_init (l : Launch) (g : zG) (A : Nat → Prop) (T : zT) (q : Nat) (wz tz rs : Nat) (hq_ : T q = some (.inl (zo 7 [.null, .int 0, .null]))) : Met l yX8_init (ws_ yX8_init cX8_init 4 none) (zR 2 0 0) (zP [.ref q, .ref wz, .ref tz, .int (nI rs)] g A (zTH g A T)) (va_Qv (fun (_ : Unit) => True) (fun (_ : Unit) t => zTH g A (va_up T q (some (.inl (zo 7 [.ref tz, .int (nI rs), .ref wz])))) t.heap) A) 0 0 A := by
  refine zb_met (by decide) (Nat.le_of_ble_eq_true rfl) ?_
  intro p e s m args below meth c ls hx hb hr hml hown hts hlocks hnm hK hT ha_ hl
  have hown : s.vm.findClass RX8 = some m.cls := hown
  have hS : va_S A s.heap s.heap [] := va_S.rf
  have hl : lv_has ls 4 [(0, .ref q), (1, .ref wz), (2, .ref tz), (3, .int (nI rs))] := hl
  refine lv_aload_n hx hb dX8_init_0 rfl (lv_at hl 0 rfl) ?_
  refine lv_aload_n hx hb dX8_init_1 rfl (lv_at hl 1 rfl) ?_
  refine zt_putF hx hb hts in_X8 tyX8 tyX8_ok nmX8 hown hK.1 hT hS hq_ rfl 2 (by decide) (hts _ q874) (fun _ h => h) rfl hnm rfl (v := .ref wz) (tyX8_ok 2 (by decide)) rfl rfl (show 2 < 3 from by decide) dX8_init_2 (fun H locs hT hS => ?_)
  obtain ⟨M_1, eM_1⟩ : ∃ M0, M0 = va_up T q (some (.inl (zo 7 [.null, .int 0, .ref wz]))) := ⟨_, rfl⟩
  have hT : zTH g A M_1 H := by rw [eM_1]; exact hT
  have h_2 : M_1 q = some (.inl (zo 7 [.null, .int 0, .ref wz])) := by rw [eM_1]; exact va_up_self _ _ _
  refine lv_aload_n hx hb dX8_init_5 rfl (lv_at hl 0 rfl) ?_
  refine lv_aload_n hx hb dX8_init_6 rfl (lv_at hl 2 rfl) ?_
  refine zt_putF hx hb hts in_X8 tyX8 tyX8_ok nmX8 hown hK.1 hT hS h_2 rfl 0 (by decide) (hts _ q872) (fun _ h => h) rfl hnm rfl (v := .ref tz) (tyX8_ok 0 (by decide)) rfl rfl (show 0 < 3 from by decide) dX8_init_7 (fun H locs hT hS => ?_)
  obtain ⟨M_3, eM_3⟩ : ∃ M0, M0 = va_up M_1 q (some (.inl (zo 7 [.ref tz, .int 0, .ref wz]))) := ⟨_, rfl⟩
  have hT : zTH g A M_3 H := by rw [eM_3]; exact hT
  have h_4 : M_3 q = some (.inl (zo 7 [.ref tz, .int 0, .ref wz])) := by rw [eM_3]; exact va_up_self _ _ _
  refine lv_aload_n hx hb dX8_init_10 rfl (lv_at hl 0 rfl) ?_
  refine lv_iload_n hx hb dX8_init_11 rfl (lv_at hl 3 rfl) ?_
  refine zt_putF hx hb hts in_X8 tyX8 tyX8_ok nmX8 hown hK.1 hT hS h_4 rfl 1 (by decide) (hts _ q873) (fun _ h => h) rfl hnm rfl (v := .int (nI rs)) (tyX8_ok 1 (by decide)) rfl rfl (show 1 < 3 from by decide) dX8_init_12 (fun H locs hT hS => ?_)
  obtain ⟨M_5, eM_5⟩ : ∃ M0, M0 = va_up M_3 q (some (.inl (zo 7 [.ref tz, .int (nI rs), .ref wz]))) := ⟨_, rfl⟩
  have hT : zTH g A M_5 H := by rw [eM_5]; exact hT
  have h_6 : M_5 q = some (.inl (zo 7 [.ref tz, .int (nI rs), .ref wz])) := by rw [eM_5]; exact va_up_self _ _ _
  refine lv_aload_n hx hb dX8_init_15 rfl (lv_at hl 0 rfl) ?_
  refine W.objInit hx hb hown (hts _ q871) (hts _ q72) (hts _ q73) rfl (by rw [hml]; exact hl.1) rfl dX8_init_16 (Nat.le_of_ble_eq_true rfl) (Nat.le_of_ble_eq_true rfl) ?_
  refine W.eq (g2 := F0 m 19 ls []) rfl ?_
  rw [eM_5, eM_3, eM_1, zup_up, zup_up] at hT
  exact ze_v hx hb hr hlocks hS dX8_init_19 (Nat.zero_le _) (Nat.zero_le _) () trivial hT
theorem zn_X7_init : zN yX7_init 2 := by decide +kernel
set_option maxHeartbeats 4000000 in
theorem ct_X7_init (l : Launch) (g : zG) (A : Nat → Prop) (T : zT) (q : Nat) (wz tz : Nat) (hq_ : T q = some (.inl (zo 6 [.null, .null]))) : Met l yX7_init (ws_ yX7_init cX7_init 3 none) (zR 2 0 0) (zP [.ref q, .ref wz, .ref tz] g A (zTH g A T)) (va_Qv (fun (_ : Unit) => True) (fun (_ : Unit) t => zTH g A (va_up T q (some (.inl (zo 6 [.ref tz, .ref wz])))) t.heap) A) 0 0 A := by
  refine zb_met (by decide) (Nat.le_of_ble_eq_true rfl) ?_
  intro p e s m args below meth c ls hx hb hr hml hown hts hlocks hnm hK hT ha_ hl
  have hown : s.vm.findClass RX7 = some m.cls := hown
  have hS : va_S A s.heap s.heap [] := va_S.rf
  have hl : lv_has ls 3 [(0, .ref q), (1, .ref wz), (2, .ref tz)] := hl
  refine lv_aload_n hx hb dX7_init_0 rfl (lv_at hl 0 rfl) ?_
  refine lv_aload_n hx hb dX7_init_1 rfl (lv_at hl 1 rfl) ?_
  refine zt_putF hx hb hts in_X7 tyX7 tyX7_ok nmX7 hown hK.1 hT hS hq_ rfl 1 (by decide) (hts _ q661) (fun _ h => h) rfl hnm rfl (v := .ref wz) (tyX7_ok 1 (by decide)) rfl rfl (show 1 < 2 from by decide) dX7_init_2 (fun H locs hT hS => ?_)
  obtain ⟨M_1, eM_1⟩ : ∃ M0, M0 = va_up T q (some (.inl (zo 6 [.null, .ref wz]))) := ⟨_, rfl⟩
  have hT : zTH g A M_1 H := by rw [eM_1]; exact hT
  have h_2 : M_1 q = some (.inl (zo 6 [.null, .ref wz])) := by rw [eM_1]; exact va_up_self _ _ _
  refine lv_aload_n hx hb dX7_init_5 rfl (lv_at hl 0 rfl) ?_
  refine lv_aload_n hx hb dX7_init_6 rfl (lv_at hl 2 rfl) ?_
  refine zt_putF hx hb hts in_X7 tyX7 tyX7_ok nmX7 hown hK.1 hT hS h_2 rfl 0 (by decide) (hts _ q660) (fun _ h => h) rfl hnm rfl (v := .ref tz) (tyX7_ok 0 (by decide)) rfl rfl (show 0 < 2 from by decide) dX7_init_7 (fun H locs hT hS => ?_)
  obtain ⟨M_3, eM_3⟩ : ∃ M0, M0 = va_up M_1 q (some (.inl (zo 6 [.ref tz, .ref wz]))) := ⟨_, rfl⟩
  have hT : zTH g A M_3 H := by rw [eM_3]; exact hT
  have h_4 : M_3 q = some (.inl (zo 6 [.ref tz, .ref wz])) := by rw [eM_3]; exact va_up_self _ _ _
  refine lv_aload_n hx hb dX7_init_10 rfl (lv_at hl 0 rfl) ?_
  refine W.objInit hx hb hown (hts _ q659) (hts _ q72) (hts _ q73) rfl (by rw [hml]; exact hl.1) rfl dX7_init_11 (Nat.le_of_ble_eq_true rfl) (Nat.le_of_ble_eq_true rfl) ?_
  refine W.eq (g2 := F0 m 14 ls []) rfl ?_
  rw [eM_3, eM_1, zup_up] at hT
  exact ze_v hx hb hr hlocks hS dX7_init_14 (Nat.zero_le _) (Nat.zero_le _) () trivial hT
theorem zn_X9_init : zN yX9_init 2 := by decide +kernel
set_option maxHeartbeats 4000000 in
theorem ct_X9_init (l : Launch) (g : zG) (A : Nat → Prop) (T : zT) (q : Nat) (tz : Nat) (tm : Int32) (hq_ : T q = some (.inl (zo 8 [.null, .int 0]))) : Met l yX9_init (ws_ yX9_init cX9_init 3 none) (zR 2 0 0) (zP [.ref q, .ref tz, .int tm] g A (zTH g A T)) (va_Qv (fun (_ : Unit) => True) (fun (_ : Unit) t => zTH g A (va_up T q (some (.inl (zo 8 [.ref tz, .int tm])))) t.heap) A) 0 0 A := by
  refine zb_met (by decide) (Nat.le_of_ble_eq_true rfl) ?_
  intro p e s m args below meth c ls hx hb hr hml hown hts hlocks hnm hK hT ha_ hl
  have hown : s.vm.findClass RX9 = some m.cls := hown
  have hS : va_S A s.heap s.heap [] := va_S.rf
  have hl : lv_has ls 3 [(0, .ref q), (1, .ref tz), (2, .int tm)] := hl
  refine lv_aload_n hx hb dX9_init_0 rfl (lv_at hl 0 rfl) ?_
  refine W.objInit hx hb hown (hts _ q897) (hts _ q72) (hts _ q73) rfl (by rw [hml]; exact hl.1) rfl dX9_init_1 (Nat.le_of_ble_eq_true rfl) (Nat.le_of_ble_eq_true rfl) ?_
  refine W.eq (g2 := F0 m 4 ls []) rfl ?_
  refine lv_aload_n hx hb dX9_init_4 rfl (lv_at hl 0 rfl) ?_
  refine lv_aload_n hx hb dX9_init_5 rfl (lv_at hl 1 rfl) ?_
  refine zt_putF hx hb hts in_X9 tyX9 tyX9_ok nmX9 hown hK.1 hT hS hq_ rfl 0 (by decide) (hts _ q898) (fun _ h => h) rfl hnm rfl (v := .ref tz) (tyX9_ok 0 (by decide)) rfl rfl (show 0 < 2 from by decide) dX9_init_6 (fun H locs hT hS => ?_)
  obtain ⟨M_1, eM_1⟩ : ∃ M0, M0 = va_up T q (some (.inl (zo 8 [.ref tz, .int 0]))) := ⟨_, rfl⟩
  have hT : zTH g A M_1 H := by rw [eM_1]; exact hT
  have h_2 : M_1 q = some (.inl (zo 8 [.ref tz, .int 0])) := by rw [eM_1]; exact va_up_self _ _ _
  refine lv_aload_n hx hb dX9_init_9 rfl (lv_at hl 0 rfl) ?_
  refine lv_iload_n hx hb dX9_init_10 rfl (lv_at hl 2 rfl) ?_
  refine zt_putF hx hb hts in_X9 tyX9 tyX9_ok nmX9 hown hK.1 hT hS h_2 rfl 1 (by decide) (hts _ q900) (fun _ h => h) rfl hnm rfl (v := .int tm) (tyX9_ok 1 (by decide)) rfl rfl (show 1 < 2 from by decide) dX9_init_11 (fun H locs hT hS => ?_)
  obtain ⟨M_3, eM_3⟩ : ∃ M0, M0 = va_up M_1 q (some (.inl (zo 8 [.ref tz, .int tm]))) := ⟨_, rfl⟩
  have hT : zTH g A M_3 H := by rw [eM_3]; exact hT
  have h_4 : M_3 q = some (.inl (zo 8 [.ref tz, .int tm])) := by rw [eM_3]; exact va_up_self _ _ _
  rw [eM_3, eM_1, zup_up] at hT
  exact ze_v hx hb hr hlocks hS dX9_init_14 (Nat.zero_le _) (Nat.zero_le _) () trivial hT
theorem zn_X6_init : zN yX6_init 3 := by decide +kernel
set_option maxHeartbeats 4000000 in
theorem ct_X6_init (l : Launch) (g : zG) (A : Nat → Prop) (T : zT) (q : Nat) (pz : Nat) (hz : Option Nat) (km : Int32) (hq_ : T q = some (.inl (zo 5 [.null, .null, .int 0]))) : Met l yX6_init (ws_ yX6_init cX6_init 4 none) (zR 2 0 0) (zP [.ref q, .ref pz, va_rf hz, .int km] g A (zTH g A T)) (va_Qv (fun (_ : Unit) => True) (fun (_ : Unit) t => zTH g A (va_up T q (some (.inl (zo 5 [.ref pz, va_rf hz, .int km])))) t.heap) A) 0 0 A := by
  refine zb_met (by decide) (by cases hz <;> exact Nat.le_of_ble_eq_true rfl) ?_
  intro p e s m args below meth c ls hx hb hr hml hown hts hlocks hnm hK hT ha_ hl
  have hown : s.vm.findClass RX6 = some m.cls := hown
  have hS : va_S A s.heap s.heap [] := va_S.rf
  have hl : lv_has ls 4 [(0, .ref q), (1, .ref pz), (2, va_rf hz), (3, .int km)] := by cases hz <;> exact hl
  refine lv_aload_n hx hb dX6_init_0 rfl (lv_at hl 0 rfl) ?_
  refine W.objInit hx hb hown (hts _ q576) (hts _ q72) (hts _ q73) rfl (by rw [hml]; exact hl.1) rfl dX6_init_1 (Nat.le_of_ble_eq_true rfl) (Nat.le_of_ble_eq_true rfl) ?_
  refine W.eq (g2 := F0 m 4 ls []) rfl ?_
  refine lv_aload_n hx hb dX6_init_4 rfl (lv_at hl 0 rfl) ?_
  refine lv_aload_n hx hb dX6_init_5 rfl (lv_at hl 1 rfl) ?_
  refine zt_putF hx hb hts in_X6 tyX6 tyX6_ok nmX6 hown hK.1 hT hS hq_ rfl 0 (by decide) (hts _ q577) (fun _ h => h) rfl hnm rfl (v := .ref pz) (tyX6_ok 0 (by decide)) rfl rfl (show 0 < 3 from by decide) dX6_init_6 (fun H locs hT hS => ?_)
  obtain ⟨M_1, eM_1⟩ : ∃ M0, M0 = va_up T q (some (.inl (zo 5 [.ref pz, .null, .int 0]))) := ⟨_, rfl⟩
  have hT : zTH g A M_1 H := by rw [eM_1]; exact hT
  have h_2 : M_1 q = some (.inl (zo 5 [.ref pz, .null, .int 0])) := by rw [eM_1]; exact va_up_self _ _ _
  refine lv_aload_n hx hb dX6_init_9 rfl (lv_at hl 0 rfl) ?_
  refine lv_aload_nO hx hb dX6_init_10 rfl (lv_at hl 2 rfl) ?_
  refine zt_putF hx hb hts in_X6 tyX6 tyX6_ok nmX6 hown hK.1 hT hS h_2 rfl 1 (by decide) (hts _ q579) (fun _ h => h) rfl hnm rfl (v := va_rf hz) (tyX6_ok 1 (by decide)) (by cases hz <;> rfl) (by cases hz <;> rfl) (show 1 < 3 from by decide) dX6_init_11 (fun H locs hT hS => ?_)
  obtain ⟨M_3, eM_3⟩ : ∃ M0, M0 = va_up M_1 q (some (.inl (zo 5 [.ref pz, va_rf hz, .int 0]))) := ⟨_, rfl⟩
  have hT : zTH g A M_3 H := by rw [eM_3]; exact hT
  have h_4 : M_3 q = some (.inl (zo 5 [.ref pz, va_rf hz, .int 0])) := by rw [eM_3]; exact va_up_self _ _ _
  refine lv_aload_n hx hb dX6_init_14 rfl (lv_at hl 0 rfl) ?_
  refine lv_iload_n hx hb dX6_init_15 rfl (lv_at hl 3 rfl) ?_
  refine zt_putF hx hb hts in_X6 tyX6 tyX6_ok nmX6 hown hK.1 hT hS h_4 rfl 2 (by decide) (hts _ q581) (fun _ h => h) rfl hnm rfl (v := .int km) (tyX6_ok 2 (by decide)) rfl rfl (show 2 < 3 from by decide) dX6_init_16 (fun H locs hT hS => ?_)
  obtain ⟨M_5, eM_5⟩ : ∃ M0, M0 = va_up M_3 q (some (.inl (zo 5 [.ref pz, va_rf hz, .int km]))) := ⟨_, rfl⟩
  have hT : zTH g A M_5 H := by rw [eM_5]; exact hT
  have h_6 : M_5 q = some (.inl (zo 5 [.ref pz, va_rf hz, .int km])) := by rw [eM_5]; exact va_up_self _ _ _
  rw [eM_5, eM_3, eM_1, zup_up, zup_up] at hT
  exact ze_v hx hb hr hlocks hS dX6_init_19 (Nat.zero_le _) (Nat.zero_le _) () trivial hT
theorem zn_X1_barring : zN yX1_barring 2 := by decide +kernel
set_option maxHeartbeats 4000000 in
theorem ct_X1_barring (l : Launch) (g : zG) (A : Nat → Prop) (S : zS) (X : zX) (T : zT) (hY : zSy S g X T) (hI : MH X) (hC : zKo S X) (hKk : zKk S X) (hz9 : ∀ p, X 9 p = 0 ∨ X 9 p = 1) (hz10 : ∀ p, X 10 p = 0 ∨ X 10 p = 1) (t rs : Nat) (ht : t < mN X) (hrs : 1 ≤ rs ∧ rs ≤ 7) : Met l yX1_barring (ws_ yX1_barring cX1_barring 3 (some (.object "WheelWorks$Part"))) (zR 16 1 3) (zP [.ref (S.A 0), .ref (S.pa t), .int (nI rs)] g A (zTH g A T)) (va_Qq (fun rz_ (_ : Unit) => rz_ = (zfi (fun i => decide (mHd X i = t) && zBr S X i rs) (mN X) 0).map S.pa) (fun (_ : Unit) t => zTH g A T t.heap) A) 1 3 A := by
  refine zb_met (by decide) (Nat.le_of_ble_eq_true rfl) ?_
  intro p e s m args below meth c ls hx hb hr hml hown hts hlocks hnm hK hT ha_ hl
  have hown : s.vm.findClass RX1 = some m.cls := hown
  have hS : va_S A s.heap s.heap [] := va_S.rf
  have hl : lv_has ls 3 [(0, .ref (S.A 0)), (1, .ref (S.pa t)), (2, .int (nI rs))] := hl
  refine lv_aload_n hx hb dX1_barring_0 rfl (lv_at hl 0 rfl) ?_
  refine zt_get hx hb hts in_X1 hown hK.1 hT hY.w rfl 0 (by decide) (hts _ q177) (fun _ h => h) rfl dX1_barring_1 ?_
  refine zt_new hx hb hts in_X8 tyX8 tyX8_ok hown (hts _ q866) (hts _ q867) (hts _ q64) hK.1 hT hS (ci := 7) rfl (fs := [.null, .int 0, .null]) (by decide) (by show _ + 1 ≤ 1; omega) (by show _ + 3 ≤ 3; omega) dX1_barring_4 (fun q H hq hT hS => ?_)
  refine lv_dup hx hb dX1_barring_7 rfl ?_
  refine lv_aload_n hx hb dX1_barring_8 rfl (lv_at hl 0 rfl) ?_
  refine lv_aload_n hx hb dX1_barring_9 rfl (lv_at hl 1 rfl) ?_
  refine lv_iload_n hx hb dX1_barring_10 rfl (lv_at hl 2 rfl) ?_
  refine zc_v (zr_I (As := [.ref (S.A 0), .ref (S.pa t), .int (nI rs)]) (rest := [.ref q, .ref (S.A 1)]) ⟨hx, hb, hml, hown, hts⟩ (ct_X8_init l g A _ q (S.A 0) (S.pa t) rs (va_up_self _ _ _)) zn_X8_init q870 q64 q868 q869 rfl (by decide) (by decide) hK (fun _ h => h) hS hT rfl hl.1 (Nat.le_of_ble_eq_true rfl) dX1_barring_11 ⟨by show _ + 0 ≤ _; omega, by show _ + 0 ≤ _; omega⟩) hS (fun _ h => h) (fun _ H locs _ hT _ _ hS => ?_)
  rw [zup_up] at hT
  have hY1 := hY.fresh hq (.inl (zo 7 [.ref (S.pa t), .int (nI rs), .ref (S.A 0)]))
  refine zc_q (zr_V (As := [.ref q]) (rest := []) ⟨hx, hb, hml, hown, hts⟩ (ct_X2_lowest8 l g A S X _ hY1 hI hC hKk hz9 hz10 q t rs ht hrs (va_up_self _ _ _)) zn_X2_lowest8 (lw_V q667 q668 q669 q40 q670) rfl (by decide) (by decide) hK (fun _ h => h) hS hT (zt_recv hK.1 hT hY1.rk rfl) rfl hl.1 (Nat.le_of_ble_eq_true rfl) dX1_barring_14 ⟨by show _ + 0 ≤ _; omega, by show _ + 0 ≤ _; omega⟩) hS (fun _ h => h) (fun r _ H locs hr1 hT _ _ hS => ?_)
  subst hr1
  have hT := hT.drop hq
  refine zl_castO hx hb hown (hts _ q356) (hK.1.1 3 _ rfl).2 (fun a ha => ?_) dX1_barring_17 ?_
  · obtain ⟨i, hi, rfl⟩ := Option.map_eq_some_iff.mp ha
    exact zt_recv hK.1 hT (hY.p (by have := (zfi_lt _ _ _ hi).1; omega)) (r := zCl[3]) rfl
  exact ze_q (v := (zfi (fun i => decide (mHd X i = t) && zBr S X i rs) (mN X) 0).map S.pa) hx hb hr (Or.inl ⟨_, rfl⟩) hlocks hS dX1_barring_20 (by show _ ≤ 1; omega) (by show _ ≤ 3; omega) () (by rfl) hT
theorem zn_X1_reasonOf : zN yX1_reasonOf 1 := by decide +kernel
set_option maxHeartbeats 4000000 in
theorem ct_X1_reasonOf (l : Launch) (g : zG) (A : Nat → Prop) (S : zS) (X : zX) (T : zT) (hY : zSy S g X T) (hI : MH X) (hC : zKo S X) (hKk : zKk S X) (hz9 : ∀ p, X 9 p = 0 ∨ X 9 p = 1) (hz10 : ∀ p, X 10 p = 0 ∨ X 10 p = 1) (t : Nat) (ht : t < mN X) : Met l yX1_reasonOf (ws_ yX1_reasonOf cX1_reasonOf 3 (some .int)) (zR 17 7 21) (zP [.ref (S.A 0), .ref (S.pa t)] g A (zTH g A T)) (va_Qi (fun rz_ (_ : Unit) => rz_ = nI (zre S X t 7 1)) (fun (_ : Unit) t => zTH g A T t.heap) A) 7 21 A := by
  refine zb_met (by decide) (Nat.le_of_ble_eq_true rfl) ?_
  intro p e s m args below meth c ls hx hb hr hml hown hts hlocks hnm hK hT ha_ hl
  have hown : s.vm.findClass RX1 = some m.cls := hown
  have hS : va_S A s.heap s.heap [] := va_S.rf
  have hl : lv_has ls 3 [(0, .ref (S.A 0)), (1, .ref (S.pa t))] := hl
  refine lv_iconst (v := 1) hx hb dX1_reasonOf_0 (by decide) ?_
  refine lv_istore_n (lv' := [(2, .int 1), (0, .ref (S.A 0)), (1, .ref (S.pa t))]) hx hb dX1_reasonOf_1 rfl hl (by decide) rfl (fun ls hl => ?_)
  have L_2 : ∀ (n_1 : Nat) (j : Nat), (8 - j) < n_1 → (j ≤ 7) → (zre S X t (7 - j) (j + 1) = zre S X t 7 1) → ∀ (H : Heap) (locs : List Loc) (ls : Array Slot), zTH g A T H → va_S A s.heap H locs → lv_has ls 3 [(2, .int (nI (j + 1))), (0, .ref (S.A 0)), (1, .ref (S.pa t))] → W p l e (zR 17 7 21) s m args below meth c H locs j (3 * j) (MQ below (va_Qi (fun rz_ (_ : Unit) => rz_ = nI (zre S X t 7 1)) (fun (_ : Unit) t => zTH g A T t.heap) A) args s 7 21 A) (F0 m 2 ls []) := by
    intro n_1
    induction n_1 with
    | zero => intro j hm; exact absurd hm (Nat.not_lt_zero _)
    | succ n_1 ih =>
      intro j hm hj hf H locs ls hT hS hl
      have ih_3 := ih
      refine lv_iload_n hx hb dX1_reasonOf_2 rfl (lv_at hl 0 rfl) ?_
      refine lv_bipush (v := 7) hx hb dX1_reasonOf_3 (by decide) ?_
      refine zl_gt (tgt := 25) (a := j + 1) (b := 7) hx hb (by first | decide | omega) (by first | decide | omega) dX1_reasonOf_5 (by decide) (fun c_4 => ?_) (fun c_4 => ?_)
      · refine lv_iconst (v := 0) hx hb dX1_reasonOf_25 (by decide) ?_
        exact ze_i hx hb hr hlocks hS dX1_reasonOf_26 (by show _ ≤ 7; omega) (by show _ ≤ 21; omega) () (by rw [← hf, show 7 - j = 0 by omega]; rfl) hT
      · refine lv_aload_n hx hb dX1_reasonOf_8 rfl (lv_at hl 1 rfl) ?_
        refine lv_aload_n hx hb dX1_reasonOf_9 rfl (lv_at hl 2 rfl) ?_
        refine lv_iload_n hx hb dX1_reasonOf_10 rfl (lv_at hl 0 rfl) ?_
        refine zc_q (zr_V (As := [.ref (S.pa t), .int (nI (j + 1))]) (rest := []) ⟨hx, hb, hml, hown, hts⟩ (ct_X1_barring l g A S X _ hY hI hC hKk hz9 hz10 t (j + 1) ht (by omega)) zn_X1_barring (lw_V q862 q864 qs13 q39 q865) rfl (by decide) (by decide) hK (fun _ h => h) hS hT (zt_recv hK.1 hT hY.w rfl) rfl hl.1 (Nat.le_of_ble_eq_true rfl) dX1_reasonOf_11 ⟨by show _ + 1 ≤ 7; omega, by show _ + 3 ≤ 21; omega⟩) hS (fun _ h => h) (fun r _ H locs hr1 hT _ _ hS => ?_)
        subst hr1
        refine lv_ifnullO (tgt := 19) hx hb dX1_reasonOf_14 (by decide) (fun c_1 => ?_) (fun y c_1 => ?_)
        · have hz : zfi (fun i => decide (mHd X i = t) && zBr S X i (j + 1)) (mN X) 0 = none := by simpa using c_1
          have hf2 : zre S X t (7 - (j + 1)) (j + 1 + 1) = zre S X t 7 1 := by
            rw [← hf, show 7 - j = (7 - (j + 1)) + 1 by omega]
            conv => rhs; unfold zre
            rw [hz]; rfl
          refine lv_iinc (v := nI (j + 1 + 1)) (lv' := [(2, .int (nI (j + 1 + 1))), (0, .ref (S.A 0)), (1, .ref (S.pa t))]) hx hb dX1_reasonOf_19 hl (k := 0) rfl (nI_1 (j + 1)) (by decide) rfl (fun ls hl => ?_)
          refine lv_goto (tgt := 2) hx hb dX1_reasonOf_22 (by decide) ?_
          exact ih_3 (j + 1) (by omega) (by omega) hf2 _ _ _ hT hS (lv_sub hl [0, 1, 2] rfl)
        · have hz : ∃ i, zfi (fun i => decide (mHd X i = t) && zBr S X i (j + 1)) (mN X) 0 = some i := by obtain ⟨i, h, -⟩ := Option.map_eq_some_iff.mp c_1; exact ⟨i, h⟩
          obtain ⟨i, hz⟩ := hz
          refine lv_iload_n hx hb dX1_reasonOf_17 rfl (lv_at hl 0 rfl) ?_
          exact ze_i hx hb hr hlocks hS dX1_reasonOf_18 (by show _ ≤ 7; omega) (by show _ ≤ 21; omega) () (by rw [← hf, show 7 - j = (7 - (j + 1)) + 1 by omega]; unfold zre; rw [hz]; rfl) hT
  exact L_2 ((8 - 0) + 1) 0 (Nat.lt_succ_self _) (by decide) rfl _ _ _ hT hS (lv_sub hl [0, 1, 2] rfl)
