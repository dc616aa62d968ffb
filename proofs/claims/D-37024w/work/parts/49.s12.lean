theorem zn_X5_init : zN yX5_init 1 := by decide +kernel
set_option maxHeartbeats 4000000 in
theorem ct_X5_init (l : Launch) (g : zG) (A : Nat → Prop) (T : zT) (q : Nat) (hq_ : T q = some (.inl (zo 4 [.null, .null]))) : Met l yX5_init (ws_ yX5_init cX5_init 2 none) (zR 5 1 3) (zP [.ref q, .null] g A (zTH g A T)) (va_Qv (fun (u : zT × Nat) => T u.2 = none ∧ u.1 u.2 = some (.inr (0, [])) ∧ u.1 q = some (.inl (zo 4 [.ref u.2, .null])) ∧ ∀ a, a ≠ q → a ≠ u.2 → u.1 a = T a) (fun u t => zTH g A u.1 t.heap) A) 1 3 A := by
  refine zb_met (by decide) (Nat.le_of_ble_eq_true rfl) ?_
  intro p e s m args below meth c ls hx hb hr hml hown hts hlocks hnm hK hT ha_ hl
  have hown : s.vm.findClass RX5 = some m.cls := hown
  have hS : va_S A s.heap s.heap [] := va_S.rf
  have hl : lv_has ls 2 [(0, .ref q), (1, .null)] := hl
  have hfr0 : ∀ a, T a = T a := fun a => rfl
  refine lv_aload_n hx hb dX5_init_0 rfl (lv_at hl 0 rfl) ?_
  refine W.objInit hx hb hown (hts _ q367) (hts _ q72) (hts _ q73) rfl (by rw [hml]; exact hl.1) rfl dX5_init_1 (Nat.le_of_ble_eq_true rfl) (Nat.le_of_ble_eq_true rfl) ?_
  refine W.eq (g2 := F0 m 4 ls []) rfl ?_
  refine lv_aload_n hx hb dX5_init_4 rfl (lv_at hl 0 rfl) ?_
  refine zt_new hx hb hts in_J2 tyJ2 tyJ2_ok hown (hts _ q368) (hts _ q81) (hts _ q43) hK.1 hT hS (ci := 9) rfl (fs := [.int 0, .null, .int 0]) (by decide) (by show _ + 1 ≤ 1; omega) (by show _ + 3 ≤ 3; omega) dX5_init_5 (fun q_1 H hq_2 hT hS => ?_)
  obtain ⟨M_3, eM_3⟩ : ∃ M0 : zT, M0 = va_up T q_1 (some (.inl (zo 9 [.int 0, .null, .int 0]))) := ⟨_, rfl⟩
  have hT : zTH g A M_3 H := by rw [eM_3]; exact hT
  have hn_4 : q ≠ q_1 := fun z => by rw [z, hq_2] at hq_; cases hq_
  have hf_5 : T q_1 = none := (hfr0 q_1).symm.trans hq_2
  have h_6 : M_3 q_1 = some (.inl (zo 9 [.int 0, .null, .int 0])) := by rw [eM_3]; exact va_up_self _ _ _
  have h_7 : M_3 q = some (.inl (zo 4 [.null, .null])) := by rw [eM_3]; exact (va_up_ne _ _ hn_4).trans hq_
  have fr_8 : ∀ a, a ≠ q_1 → M_3 a = T a := fun a z0 => by rw [eM_3]; exact (va_up_ne _ _ z0).trans (hfr0 a)
  refine lv_dup hx hb dX5_init_8 rfl ?_
  refine zc_v (zr_I (As := []) (rest := [.ref q_1, .ref q]) ⟨hx, hb, hml, hown, hts⟩ (ct_J2_init l g A _ q_1 h_6) zn_J2_init q84 q43 q369 q83 rfl (by decide) (by decide) hK (fun _ h => h) hS hT rfl hl.1 (Nat.le_of_ble_eq_true rfl) dX5_init_9 ⟨by show _ + 0 ≤ _; omega, by show _ + 0 ≤ _; omega⟩) hS (fun _ h => h) (fun _ H locs _ hT _ _ hS => ?_)
  obtain ⟨M_9, eM_9⟩ : ∃ M0 : zT, M0 = va_up M_3 q_1 (some (.inr (0, []))) := ⟨_, rfl⟩
  have hT : zTH g A M_9 H := by rw [eM_9]; exact hT
  have h_10 : M_9 q_1 = some (.inr (0, [])) := by rw [eM_9]; exact va_up_self _ _ _
  have h_11 : M_9 q = some (.inl (zo 4 [.null, .null])) := by rw [eM_9]; exact (va_up_ne _ _ hn_4).trans h_7
  have fr_12 : ∀ a, a ≠ q_1 → M_9 a = T a := fun a z0 => by rw [eM_9]; exact (va_up_ne _ _ z0).trans (fr_8 a z0)
  refine zt_putF hx hb hts in_X5 tyX5 tyX5_ok nmX5 hown hK.1 hT hS h_11 rfl 0 (by decide) (hts _ q370) (fun _ h => h) rfl hnm rfl (v := .ref q_1) (tyX5_ok 0 (by decide)) rfl rfl (show 0 < 2 from by decide) dX5_init_12 (fun H locs hT hS => ?_)
  obtain ⟨M_13, eM_13⟩ : ∃ M0 : zT, M0 = va_up M_9 q (some (.inl (zo 4 [.ref q_1, .null]))) := ⟨_, rfl⟩
  have hT : zTH g A M_13 H := by rw [eM_13]; exact hT
  have h_14 : M_13 q = some (.inl (zo 4 [.ref q_1, .null])) := by rw [eM_13]; exact va_up_self _ _ _
  have h_15 : M_13 q_1 = some (.inr (0, [])) := by rw [eM_13]; exact (va_up_ne _ _ (Ne.symm hn_4)).trans h_10
  have fr_16 : ∀ a, a ≠ q_1 → a ≠ q → M_13 a = T a := fun a z0 z1 => by rw [eM_13]; exact (va_up_ne _ _ z1).trans (fr_12 a z0)
  refine lv_aload_n hx hb dX5_init_15 rfl (lv_at hl 0 rfl) ?_
  refine lv_aload_nN hx hb dX5_init_16 rfl (lv_at hl 1 rfl) ?_
  refine zt_put hx hb hts in_X5 tyX5 tyX5_ok nmX5 hown hK.1 hT hS h_14 rfl 1 (by decide) (hts _ q372) (fun _ h => h) rfl (v := .null) (tyX5_ok 1 (by decide)) rfl rfl (show 1 < 2 from by decide) dX5_init_17 (fun H locs hT hS => ?_)
  obtain ⟨M_17, eM_17⟩ : ∃ M0 : zT, M0 = va_up M_13 q (some (.inl (zo 4 [.ref q_1, .null]))) := ⟨_, rfl⟩
  have hT : zTH g A M_17 H := by rw [eM_17]; exact hT
  have h_18 : M_17 q = some (.inl (zo 4 [.ref q_1, .null])) := by rw [eM_17]; exact va_up_self _ _ _
  have h_19 : M_17 q_1 = some (.inr (0, [])) := by rw [eM_17]; exact (va_up_ne _ _ (Ne.symm hn_4)).trans h_15
  have fr_20 : ∀ a, a ≠ q_1 → a ≠ q → M_17 a = T a := fun a z0 z1 => by rw [eM_17]; exact (va_up_ne _ _ z1).trans (fr_16 a z0 z1)
  exact ze_v hx hb hr hlocks hS dX5_init_20 (by decide) (by decide) (M_17, q_1) ⟨hf_5, h_19, h_18, fun a z1 z2 => fr_20 a z2 z1⟩ hT
theorem zn_X2_init : zN yX2_init 0 := by decide +kernel
set_option maxHeartbeats 4000000 in
theorem ct_X2_init (l : Launch) (g : zG) (A : Nat → Prop) (T : zT) (q : Nat) (hq_ : T q = some (.inl (zo 1 [.null]))) : Met l yX2_init (ws_ yX2_init cX2_init 1 none) (zR 5 1 3) (zP [.ref q] g A (zTH g A T)) (va_Qv (fun (u : zT × Nat) => T u.2 = none ∧ u.1 u.2 = some (.inr (0, [])) ∧ u.1 q = some (.inl (zo 1 [.ref u.2])) ∧ ∀ a, a ≠ q → a ≠ u.2 → u.1 a = T a) (fun u t => zTH g A u.1 t.heap) A) 1 3 A := by
  refine zb_met (by decide) (Nat.le_of_ble_eq_true rfl) ?_
  intro p e s m args below meth c ls hx hb hr hml hown hts hlocks hnm hK hT ha_ hl
  have hown : s.vm.findClass RX2 = some m.cls := hown
  have hS : va_S A s.heap s.heap [] := va_S.rf
  have hl : lv_has ls 1 [(0, .ref q)] := hl
  have hfr0 : ∀ a, T a = T a := fun a => rfl
  refine lv_aload_n hx hb dX2_init_0 rfl (lv_at hl 0 rfl) ?_
  refine W.objInit hx hb hown (hts _ q79) (hts _ q72) (hts _ q73) rfl (by rw [hml]; exact hl.1) rfl dX2_init_1 (Nat.le_of_ble_eq_true rfl) (Nat.le_of_ble_eq_true rfl) ?_
  refine W.eq (g2 := F0 m 4 ls []) rfl ?_
  refine lv_aload_n hx hb dX2_init_4 rfl (lv_at hl 0 rfl) ?_
  refine zt_new hx hb hts in_J2 tyJ2 tyJ2_ok hown (hts _ q80) (hts _ q81) (hts _ q43) hK.1 hT hS (ci := 9) rfl (fs := [.int 0, .null, .int 0]) (by decide) (by show _ + 1 ≤ 1; omega) (by show _ + 3 ≤ 3; omega) dX2_init_5 (fun q_1 H hq_2 hT hS => ?_)
  obtain ⟨M_3, eM_3⟩ : ∃ M0 : zT, M0 = va_up T q_1 (some (.inl (zo 9 [.int 0, .null, .int 0]))) := ⟨_, rfl⟩
  have hT : zTH g A M_3 H := by rw [eM_3]; exact hT
  have hn_4 : q ≠ q_1 := fun z => by rw [z, hq_2] at hq_; cases hq_
  have hf_5 : T q_1 = none := (hfr0 q_1).symm.trans hq_2
  have h_6 : M_3 q_1 = some (.inl (zo 9 [.int 0, .null, .int 0])) := by rw [eM_3]; exact va_up_self _ _ _
  have h_7 : M_3 q = some (.inl (zo 1 [.null])) := by rw [eM_3]; exact (va_up_ne _ _ hn_4).trans hq_
  have fr_8 : ∀ a, a ≠ q_1 → M_3 a = T a := fun a z0 => by rw [eM_3]; exact (va_up_ne _ _ z0).trans (hfr0 a)
  refine lv_dup hx hb dX2_init_8 rfl ?_
  refine zc_v (zr_I (As := []) (rest := [.ref q_1, .ref q]) ⟨hx, hb, hml, hown, hts⟩ (ct_J2_init l g A _ q_1 h_6) zn_J2_init q84 q43 q82 q83 rfl (by decide) (by decide) hK (fun _ h => h) hS hT rfl hl.1 (Nat.le_of_ble_eq_true rfl) dX2_init_9 ⟨by show _ + 0 ≤ _; omega, by show _ + 0 ≤ _; omega⟩) hS (fun _ h => h) (fun _ H locs _ hT _ _ hS => ?_)
  obtain ⟨M_9, eM_9⟩ : ∃ M0 : zT, M0 = va_up M_3 q_1 (some (.inr (0, []))) := ⟨_, rfl⟩
  have hT : zTH g A M_9 H := by rw [eM_9]; exact hT
  have h_10 : M_9 q_1 = some (.inr (0, [])) := by rw [eM_9]; exact va_up_self _ _ _
  have h_11 : M_9 q = some (.inl (zo 1 [.null])) := by rw [eM_9]; exact (va_up_ne _ _ hn_4).trans h_7
  have fr_12 : ∀ a, a ≠ q_1 → M_9 a = T a := fun a z0 => by rw [eM_9]; exact (va_up_ne _ _ z0).trans (fr_8 a z0)
  refine zt_putF hx hb hts in_X2 tyX2 tyX2_ok nmX2 hown hK.1 hT hS h_11 rfl 0 (by decide) (hts _ q109) (fun _ h => h) rfl hnm rfl (v := .ref q_1) (tyX2_ok 0 (by decide)) rfl rfl (show 0 < 1 from by decide) dX2_init_12 (fun H locs hT hS => ?_)
  obtain ⟨M_13, eM_13⟩ : ∃ M0 : zT, M0 = va_up M_9 q (some (.inl (zo 1 [.ref q_1]))) := ⟨_, rfl⟩
  have hT : zTH g A M_13 H := by rw [eM_13]; exact hT
  have h_14 : M_13 q = some (.inl (zo 1 [.ref q_1])) := by rw [eM_13]; exact va_up_self _ _ _
  have h_15 : M_13 q_1 = some (.inr (0, [])) := by rw [eM_13]; exact (va_up_ne _ _ (Ne.symm hn_4)).trans h_10
  have fr_16 : ∀ a, a ≠ q_1 → a ≠ q → M_13 a = T a := fun a z0 z1 => by rw [eM_13]; exact (va_up_ne _ _ z1).trans (fr_12 a z0)
  exact ze_v hx hb hr hlocks hS dX2_init_15 (by decide) (by decide) (M_13, q_1) ⟨hf_5, h_15, h_14, fun a z1 z2 => fr_16 a z2 z1⟩ hT
theorem zn_X4_init : zN yX4_init 4 := by decide +kernel
set_option maxHeartbeats 4000000 in
theorem ct_X4_init (l : Launch) (g : zG) (A : Nat → Prop) (T : zT) (q : Nat) (hq_ : T q = some (.inl (zo 3 [.int 0, .int 0, .int 0, .int 0, .null, .null, .int 0, .int 0, .int 0, .int 0, .int 0, .int 0, .int 0, .int 0, .int 0, .int 0, .int 0, .int 0, .int 0, .int 0]))) (n0 k0 a0 d0 : Int32) : Met l yX4_init (ws_ yX4_init cX4_init 5 none) (zR 6 3 8) (zP [.ref q, .int n0, .int k0, .int a0, .int d0] g A (zTH g A T)) (va_Qv (fun (u : zT × Nat × Nat × Nat) => (T u.2.1 = none ∧ T u.2.2.1 = none ∧ T u.2.2.2 = none) ∧ (u.2.1 ≠ u.2.2.1 ∧ u.2.1 ≠ u.2.2.2 ∧ u.2.2.1 ≠ u.2.2.2) ∧ u.1 q = some (.inl (zo 3 [.int n0, .int k0, .int a0, .int d0, .ref u.2.1, .ref u.2.2.2, .int 0, .int 0, .int 0, .int 0, .int 0, .int 0, .int 0, .int 0, .int 9000, .int 300, .int 0, .int (-1), .int 0, .int 0])) ∧ u.1 u.2.1 = some (.inl (zo 4 [.ref u.2.2.1, .null])) ∧ u.1 u.2.2.1 = some (.inr (0, [])) ∧ u.1 u.2.2.2 = some (.inr (0, [])) ∧ ∀ a, a ≠ q → a ≠ u.2.1 → a ≠ u.2.2.1 → a ≠ u.2.2.2 → u.1 a = T a) (fun u t => zTH g A u.1 t.heap) A) 3 8 A := by
  refine zb_met (by decide) (Nat.le_of_ble_eq_true rfl) ?_
  intro p e s m args below meth c ls hx hb hr hml hown hts hlocks hnm hK hT ha_ hl
  have hown : s.vm.findClass RX4 = some m.cls := hown
  have hS : va_S A s.heap s.heap [] := va_S.rf
  have hl : lv_has ls 5 [(0, .ref q), (1, .int n0), (2, .int k0), (3, .int a0), (4, .int d0)] := hl
  have hfr0 : ∀ a, T a = T a := fun a => rfl
  refine lv_aload_n hx hb dX4_init_0 rfl (lv_at hl 0 rfl) ?_
  refine W.objInit hx hb hown (hts _ q361) (hts _ q72) (hts _ q73) rfl (by rw [hml]; exact hl.1) rfl dX4_init_1 (Nat.le_of_ble_eq_true rfl) (Nat.le_of_ble_eq_true rfl) ?_
  refine W.eq (g2 := F0 m 4 ls []) rfl ?_
  refine lv_aload_n hx hb dX4_init_4 rfl (lv_at hl 0 rfl) ?_
  refine zt_new hx hb hts in_X5 tyX5 tyX5_ok hown (hts _ q362) (hts _ q363) (hts _ q55) hK.1 hT hS (ci := 4) rfl (fs := [.null, .null]) (by decide) (by show _ + 1 ≤ 3; omega) (by show _ + 2 ≤ 8; omega) dX4_init_5 (fun q_1 H hq_2 hT hS => ?_)
  obtain ⟨M_3, eM_3⟩ : ∃ M0 : zT, M0 = va_up T q_1 (some (.inl (zo 4 [.null, .null]))) := ⟨_, rfl⟩
  have hT : zTH g A M_3 H := by rw [eM_3]; exact hT
  have hn_4 : q ≠ q_1 := fun z => by rw [z, hq_2] at hq_; cases hq_
  have hf_5 : T q_1 = none := (hfr0 q_1).symm.trans hq_2
  have h_6 : M_3 q_1 = some (.inl (zo 4 [.null, .null])) := by rw [eM_3]; exact va_up_self _ _ _
  have h_7 : M_3 q = some (.inl (zo 3 [.int 0, .int 0, .int 0, .int 0, .null, .null, .int 0, .int 0, .int 0, .int 0, .int 0, .int 0, .int 0, .int 0, .int 0, .int 0, .int 0, .int 0, .int 0, .int 0])) := by rw [eM_3]; exact (va_up_ne _ _ hn_4).trans hq_
  have fr_8 : ∀ a, a ≠ q_1 → M_3 a = T a := fun a z0 => by rw [eM_3]; exact (va_up_ne _ _ z0).trans (hfr0 a)
  refine lv_dup hx hb dX4_init_8 rfl ?_
  refine lv_null hx hb dX4_init_9 ?_
  refine zc_v (zr_I (As := [.null]) (rest := [.ref q_1, .ref q]) ⟨hx, hb, hml, hown, hts⟩ (ct_X5_init l g A _ q_1 h_6) zn_X5_init q366 q55 q364 q365 rfl (by decide) (by decide) hK (fun _ h => h) hS hT rfl hl.1 (Nat.le_of_ble_eq_true rfl) dX4_init_10 ⟨by show _ + 1 ≤ _; omega, by show _ + 3 ≤ _; omega⟩) hS (fun _ h => h) (fun u H locs hu hT _ _ hS => ?_)
  obtain ⟨M_9, q_10⟩ := u
  obtain ⟨h_11, h_12, h_13, h_14⟩ := hu
  dsimp only at h_11 h_12 h_13 h_14 hT
  have hn_15 : q ≠ q_10 := fun z => by have z1 := h_7; rw [z, h_11] at z1; cases z1
  have hn_16 : q_1 ≠ q_10 := fun z => by have z1 := h_6; rw [z, h_11] at z1; cases z1
  have hf_17 : T q_10 = none := (fr_8 q_10 (Ne.symm hn_16)).symm.trans h_11
  have h_18 := (h_14 q hn_4 hn_15).trans h_7
  have fr_19 : ∀ a, a ≠ q_1 → a ≠ q_10 → M_9 a = T a := fun a z0 z1 => (h_14 a z0 z1).trans (fr_8 a z0)
  refine zt_putF hx hb hts in_X4 tyX4 tyX4_ok nmX4 hown hK.1 hT hS h_18 rfl 4 (by decide) (hts _ q390) (fun _ h => h) rfl hnm rfl (v := .ref q_1) (tyX4_ok 4 (by decide)) rfl rfl (show 4 < 20 from by decide) dX4_init_13 (fun H locs hT hS => ?_)
  obtain ⟨M_20, eM_20⟩ : ∃ M0 : zT, M0 = va_up M_9 q (some (.inl (zo 3 [.int 0, .int 0, .int 0, .int 0, .ref q_1, .null, .int 0, .int 0, .int 0, .int 0, .int 0, .int 0, .int 0, .int 0, .int 0, .int 0, .int 0, .int 0, .int 0, .int 0]))) := ⟨_, rfl⟩
  have hT : zTH g A M_20 H := by rw [eM_20]; exact hT
  have h_21 : M_20 q = some (.inl (zo 3 [.int 0, .int 0, .int 0, .int 0, .ref q_1, .null, .int 0, .int 0, .int 0, .int 0, .int 0, .int 0, .int 0, .int 0, .int 0, .int 0, .int 0, .int 0, .int 0, .int 0])) := by rw [eM_20]; exact va_up_self _ _ _
  have h_22 : M_20 q_1 = some (.inl (zo 4 [.ref q_10, .null])) := by rw [eM_20]; exact (va_up_ne _ _ (Ne.symm hn_4)).trans h_13
  have h_23 : M_20 q_10 = some (.inr (0, [])) := by rw [eM_20]; exact (va_up_ne _ _ (Ne.symm hn_15)).trans h_12
  have fr_24 : ∀ a, a ≠ q_1 → a ≠ q_10 → a ≠ q → M_20 a = T a := fun a z0 z1 z2 => by rw [eM_20]; exact (va_up_ne _ _ z2).trans (fr_19 a z0 z1)
  refine lv_aload_n hx hb dX4_init_16 rfl (lv_at hl 0 rfl) ?_
  refine zt_new hx hb hts in_J2 tyJ2 tyJ2_ok hown (hts _ q380) (hts _ q81) (hts _ q43) hK.1 hT hS (ci := 9) rfl (fs := [.int 0, .null, .int 0]) (by decide) (by show _ + 1 ≤ 3; omega) (by show _ + 3 ≤ 8; omega) dX4_init_17 (fun q_25 H hq_26 hT hS => ?_)
  obtain ⟨M_27, eM_27⟩ : ∃ M0 : zT, M0 = va_up M_20 q_25 (some (.inl (zo 9 [.int 0, .null, .int 0]))) := ⟨_, rfl⟩
  have hT : zTH g A M_27 H := by rw [eM_27]; exact hT
  have hn_28 : q ≠ q_25 := fun z => by rw [z, hq_26] at h_21; cases h_21
  have hn_29 : q_1 ≠ q_25 := fun z => by rw [z, hq_26] at h_22; cases h_22
  have hn_30 : q_10 ≠ q_25 := fun z => by rw [z, hq_26] at h_23; cases h_23
  have hf_31 : T q_25 = none := (fr_24 q_25 (Ne.symm hn_29) (Ne.symm hn_30) (Ne.symm hn_28)).symm.trans hq_26
  have h_32 : M_27 q_25 = some (.inl (zo 9 [.int 0, .null, .int 0])) := by rw [eM_27]; exact va_up_self _ _ _
  have h_33 : M_27 q = some (.inl (zo 3 [.int 0, .int 0, .int 0, .int 0, .ref q_1, .null, .int 0, .int 0, .int 0, .int 0, .int 0, .int 0, .int 0, .int 0, .int 0, .int 0, .int 0, .int 0, .int 0, .int 0])) := by rw [eM_27]; exact (va_up_ne _ _ hn_28).trans h_21
  have h_34 : M_27 q_1 = some (.inl (zo 4 [.ref q_10, .null])) := by rw [eM_27]; exact (va_up_ne _ _ hn_29).trans h_22
  have h_35 : M_27 q_10 = some (.inr (0, [])) := by rw [eM_27]; exact (va_up_ne _ _ hn_30).trans h_23
  have fr_36 : ∀ a, a ≠ q_1 → a ≠ q_10 → a ≠ q → a ≠ q_25 → M_27 a = T a := fun a z0 z1 z2 z3 => by rw [eM_27]; exact (va_up_ne _ _ z3).trans (fr_24 a z0 z1 z2)
  refine lv_dup hx hb dX4_init_20 rfl ?_
  refine zc_v (zr_I (As := []) (rest := [.ref q_25, .ref q]) ⟨hx, hb, hml, hown, hts⟩ (ct_J2_init l g A _ q_25 h_32) zn_J2_init q84 q43 q381 q83 rfl (by decide) (by decide) hK (fun _ h => h) hS hT rfl hl.1 (Nat.le_of_ble_eq_true rfl) dX4_init_21 ⟨by show _ + 0 ≤ _; omega, by show _ + 0 ≤ _; omega⟩) hS (fun _ h => h) (fun _ H locs _ hT _ _ hS => ?_)
  obtain ⟨M_37, eM_37⟩ : ∃ M0 : zT, M0 = va_up M_27 q_25 (some (.inr (0, []))) := ⟨_, rfl⟩
  have hT : zTH g A M_37 H := by rw [eM_37]; exact hT
  have h_38 : M_37 q_25 = some (.inr (0, [])) := by rw [eM_37]; exact va_up_self _ _ _
  have h_39 : M_37 q = some (.inl (zo 3 [.int 0, .int 0, .int 0, .int 0, .ref q_1, .null, .int 0, .int 0, .int 0, .int 0, .int 0, .int 0, .int 0, .int 0, .int 0, .int 0, .int 0, .int 0, .int 0, .int 0])) := by rw [eM_37]; exact (va_up_ne _ _ hn_28).trans h_33
  have h_40 : M_37 q_1 = some (.inl (zo 4 [.ref q_10, .null])) := by rw [eM_37]; exact (va_up_ne _ _ hn_29).trans h_34
  have h_41 : M_37 q_10 = some (.inr (0, [])) := by rw [eM_37]; exact (va_up_ne _ _ hn_30).trans h_35
  have fr_42 : ∀ a, a ≠ q_1 → a ≠ q_10 → a ≠ q → a ≠ q_25 → M_37 a = T a := fun a z0 z1 z2 z3 => by rw [eM_37]; exact (va_up_ne _ _ z3).trans (fr_36 a z0 z1 z2 z3)
  refine zt_putF hx hb hts in_X4 tyX4 tyX4_ok nmX4 hown hK.1 hT hS h_39 rfl 5 (by decide) (hts _ q392) (fun _ h => h) rfl hnm rfl (v := .ref q_25) (tyX4_ok 5 (by decide)) rfl rfl (show 5 < 20 from by decide) dX4_init_24 (fun H locs hT hS => ?_)
  obtain ⟨M_43, eM_43⟩ : ∃ M0 : zT, M0 = va_up M_37 q (some (.inl (zo 3 [.int 0, .int 0, .int 0, .int 0, .ref q_1, .ref q_25, .int 0, .int 0, .int 0, .int 0, .int 0, .int 0, .int 0, .int 0, .int 0, .int 0, .int 0, .int 0, .int 0, .int 0]))) := ⟨_, rfl⟩
  have hT : zTH g A M_43 H := by rw [eM_43]; exact hT
  have h_44 : M_43 q = some (.inl (zo 3 [.int 0, .int 0, .int 0, .int 0, .ref q_1, .ref q_25, .int 0, .int 0, .int 0, .int 0, .int 0, .int 0, .int 0, .int 0, .int 0, .int 0, .int 0, .int 0, .int 0, .int 0])) := by rw [eM_43]; exact va_up_self _ _ _
  have h_45 : M_43 q_1 = some (.inl (zo 4 [.ref q_10, .null])) := by rw [eM_43]; exact (va_up_ne _ _ (Ne.symm hn_4)).trans h_40
  have h_46 : M_43 q_10 = some (.inr (0, [])) := by rw [eM_43]; exact (va_up_ne _ _ (Ne.symm hn_15)).trans h_41
  have h_47 : M_43 q_25 = some (.inr (0, [])) := by rw [eM_43]; exact (va_up_ne _ _ (Ne.symm hn_28)).trans h_38
  have fr_48 : ∀ a, a ≠ q_1 → a ≠ q_10 → a ≠ q → a ≠ q_25 → M_43 a = T a := fun a z0 z1 z2 z3 => by rw [eM_43]; exact (va_up_ne _ _ z2).trans (fr_42 a z0 z1 z2 z3)
  refine lv_aload_n hx hb dX4_init_27 rfl (lv_at hl 0 rfl) ?_
  refine lv_sipush (v := 9000) hx hb dX4_init_28 (by decide) ?_
  refine zt_put hx hb hts in_X4 tyX4 tyX4_ok nmX4 hown hK.1 hT hS h_44 rfl 14 (by decide) (hts _ q409) (fun _ h => h) rfl (v := .int 9000) (tyX4_ok 14 (by decide)) rfl rfl (show 14 < 20 from by decide) dX4_init_31 (fun H locs hT hS => ?_)
  obtain ⟨M_49, eM_49⟩ : ∃ M0 : zT, M0 = va_up M_43 q (some (.inl (zo 3 [.int 0, .int 0, .int 0, .int 0, .ref q_1, .ref q_25, .int 0, .int 0, .int 0, .int 0, .int 0, .int 0, .int 0, .int 0, .int 9000, .int 0, .int 0, .int 0, .int 0, .int 0]))) := ⟨_, rfl⟩
  have hT : zTH g A M_49 H := by rw [eM_49]; exact hT
  have h_50 : M_49 q = some (.inl (zo 3 [.int 0, .int 0, .int 0, .int 0, .ref q_1, .ref q_25, .int 0, .int 0, .int 0, .int 0, .int 0, .int 0, .int 0, .int 0, .int 9000, .int 0, .int 0, .int 0, .int 0, .int 0])) := by rw [eM_49]; exact va_up_self _ _ _
  have h_51 : M_49 q_1 = some (.inl (zo 4 [.ref q_10, .null])) := by rw [eM_49]; exact (va_up_ne _ _ (Ne.symm hn_4)).trans h_45
  have h_52 : M_49 q_10 = some (.inr (0, [])) := by rw [eM_49]; exact (va_up_ne _ _ (Ne.symm hn_15)).trans h_46
  have h_53 : M_49 q_25 = some (.inr (0, [])) := by rw [eM_49]; exact (va_up_ne _ _ (Ne.symm hn_28)).trans h_47
  have fr_54 : ∀ a, a ≠ q_1 → a ≠ q_10 → a ≠ q → a ≠ q_25 → M_49 a = T a := fun a z0 z1 z2 z3 => by rw [eM_49]; exact (va_up_ne _ _ z2).trans (fr_48 a z0 z1 z2 z3)
  refine lv_aload_n hx hb dX4_init_34 rfl (lv_at hl 0 rfl) ?_
  refine lv_sipush (v := 300) hx hb dX4_init_35 (by decide) ?_
  refine zt_put hx hb hts in_X4 tyX4 tyX4_ok nmX4 hown hK.1 hT hS h_50 rfl 15 (by decide) (hts _ q411) (fun _ h => h) rfl (v := .int 300) (tyX4_ok 15 (by decide)) rfl rfl (show 15 < 20 from by decide) dX4_init_38 (fun H locs hT hS => ?_)
  obtain ⟨M_55, eM_55⟩ : ∃ M0 : zT, M0 = va_up M_49 q (some (.inl (zo 3 [.int 0, .int 0, .int 0, .int 0, .ref q_1, .ref q_25, .int 0, .int 0, .int 0, .int 0, .int 0, .int 0, .int 0, .int 0, .int 9000, .int 300, .int 0, .int 0, .int 0, .int 0]))) := ⟨_, rfl⟩
  have hT : zTH g A M_55 H := by rw [eM_55]; exact hT
  have h_56 : M_55 q = some (.inl (zo 3 [.int 0, .int 0, .int 0, .int 0, .ref q_1, .ref q_25, .int 0, .int 0, .int 0, .int 0, .int 0, .int 0, .int 0, .int 0, .int 9000, .int 300, .int 0, .int 0, .int 0, .int 0])) := by rw [eM_55]; exact va_up_self _ _ _
  have h_57 : M_55 q_1 = some (.inl (zo 4 [.ref q_10, .null])) := by rw [eM_55]; exact (va_up_ne _ _ (Ne.symm hn_4)).trans h_51
  have h_58 : M_55 q_10 = some (.inr (0, [])) := by rw [eM_55]; exact (va_up_ne _ _ (Ne.symm hn_15)).trans h_52
  have h_59 : M_55 q_25 = some (.inr (0, [])) := by rw [eM_55]; exact (va_up_ne _ _ (Ne.symm hn_28)).trans h_53
  have fr_60 : ∀ a, a ≠ q_1 → a ≠ q_10 → a ≠ q → a ≠ q_25 → M_55 a = T a := fun a z0 z1 z2 z3 => by rw [eM_55]; exact (va_up_ne _ _ z2).trans (fr_54 a z0 z1 z2 z3)
  refine lv_aload_n hx hb dX4_init_41 rfl (lv_at hl 0 rfl) ?_
  refine lv_iconst (v := (-1)) hx hb dX4_init_42 (by decide) ?_
  refine zt_put hx hb hts in_X4 tyX4 tyX4_ok nmX4 hown hK.1 hT hS h_56 rfl 17 (by decide) (hts _ q414) (fun _ h => h) rfl (v := .int (-1)) (tyX4_ok 17 (by decide)) rfl rfl (show 17 < 20 from by decide) dX4_init_43 (fun H locs hT hS => ?_)
  obtain ⟨M_61, eM_61⟩ : ∃ M0 : zT, M0 = va_up M_55 q (some (.inl (zo 3 [.int 0, .int 0, .int 0, .int 0, .ref q_1, .ref q_25, .int 0, .int 0, .int 0, .int 0, .int 0, .int 0, .int 0, .int 0, .int 9000, .int 300, .int 0, .int (-1), .int 0, .int 0]))) := ⟨_, rfl⟩
  have hT : zTH g A M_61 H := by rw [eM_61]; exact hT
  have h_62 : M_61 q = some (.inl (zo 3 [.int 0, .int 0, .int 0, .int 0, .ref q_1, .ref q_25, .int 0, .int 0, .int 0, .int 0, .int 0, .int 0, .int 0, .int 0, .int 9000, .int 300, .int 0, .int (-1), .int 0, .int 0])) := by rw [eM_61]; exact va_up_self _ _ _
  have h_63 : M_61 q_1 = some (.inl (zo 4 [.ref q_10, .null])) := by rw [eM_61]; exact (va_up_ne _ _ (Ne.symm hn_4)).trans h_57
  have h_64 : M_61 q_10 = some (.inr (0, [])) := by rw [eM_61]; exact (va_up_ne _ _ (Ne.symm hn_15)).trans h_58
  have h_65 : M_61 q_25 = some (.inr (0, [])) := by rw [eM_61]; exact (va_up_ne _ _ (Ne.symm hn_28)).trans h_59
  have fr_66 : ∀ a, a ≠ q_1 → a ≠ q_10 → a ≠ q → a ≠ q_25 → M_61 a = T a := fun a z0 z1 z2 z3 => by rw [eM_61]; exact (va_up_ne _ _ z2).trans (fr_60 a z0 z1 z2 z3)
  refine lv_aload_n hx hb dX4_init_46 rfl (lv_at hl 0 rfl) ?_
  refine lv_iload_n hx hb dX4_init_47 rfl (lv_at hl 1 rfl) ?_
  refine zt_putF hx hb hts in_X4 tyX4 tyX4_ok nmX4 hown hK.1 hT hS h_62 rfl 0 (by decide) (hts _ q382) (fun _ h => h) rfl hnm rfl (v := .int n0) (tyX4_ok 0 (by decide)) rfl rfl (show 0 < 20 from by decide) dX4_init_48 (fun H locs hT hS => ?_)
  obtain ⟨M_67, eM_67⟩ : ∃ M0 : zT, M0 = va_up M_61 q (some (.inl (zo 3 [.int n0, .int 0, .int 0, .int 0, .ref q_1, .ref q_25, .int 0, .int 0, .int 0, .int 0, .int 0, .int 0, .int 0, .int 0, .int 9000, .int 300, .int 0, .int (-1), .int 0, .int 0]))) := ⟨_, rfl⟩
  have hT : zTH g A M_67 H := by rw [eM_67]; exact hT
  have h_68 : M_67 q = some (.inl (zo 3 [.int n0, .int 0, .int 0, .int 0, .ref q_1, .ref q_25, .int 0, .int 0, .int 0, .int 0, .int 0, .int 0, .int 0, .int 0, .int 9000, .int 300, .int 0, .int (-1), .int 0, .int 0])) := by rw [eM_67]; exact va_up_self _ _ _
  have h_69 : M_67 q_1 = some (.inl (zo 4 [.ref q_10, .null])) := by rw [eM_67]; exact (va_up_ne _ _ (Ne.symm hn_4)).trans h_63
  have h_70 : M_67 q_10 = some (.inr (0, [])) := by rw [eM_67]; exact (va_up_ne _ _ (Ne.symm hn_15)).trans h_64
  have h_71 : M_67 q_25 = some (.inr (0, [])) := by rw [eM_67]; exact (va_up_ne _ _ (Ne.symm hn_28)).trans h_65
  have fr_72 : ∀ a, a ≠ q_1 → a ≠ q_10 → a ≠ q → a ≠ q_25 → M_67 a = T a := fun a z0 z1 z2 z3 => by rw [eM_67]; exact (va_up_ne _ _ z2).trans (fr_66 a z0 z1 z2 z3)
  refine lv_aload_n hx hb dX4_init_51 rfl (lv_at hl 0 rfl) ?_
  refine lv_iload_n hx hb dX4_init_52 rfl (lv_at hl 2 rfl) ?_
  refine zt_putF hx hb hts in_X4 tyX4 tyX4_ok nmX4 hown hK.1 hT hS h_68 rfl 1 (by decide) (hts _ q384) (fun _ h => h) rfl hnm rfl (v := .int k0) (tyX4_ok 1 (by decide)) rfl rfl (show 1 < 20 from by decide) dX4_init_53 (fun H locs hT hS => ?_)
  obtain ⟨M_73, eM_73⟩ : ∃ M0 : zT, M0 = va_up M_67 q (some (.inl (zo 3 [.int n0, .int k0, .int 0, .int 0, .ref q_1, .ref q_25, .int 0, .int 0, .int 0, .int 0, .int 0, .int 0, .int 0, .int 0, .int 9000, .int 300, .int 0, .int (-1), .int 0, .int 0]))) := ⟨_, rfl⟩
  have hT : zTH g A M_73 H := by rw [eM_73]; exact hT
  have h_74 : M_73 q = some (.inl (zo 3 [.int n0, .int k0, .int 0, .int 0, .ref q_1, .ref q_25, .int 0, .int 0, .int 0, .int 0, .int 0, .int 0, .int 0, .int 0, .int 9000, .int 300, .int 0, .int (-1), .int 0, .int 0])) := by rw [eM_73]; exact va_up_self _ _ _
  have h_75 : M_73 q_1 = some (.inl (zo 4 [.ref q_10, .null])) := by rw [eM_73]; exact (va_up_ne _ _ (Ne.symm hn_4)).trans h_69
  have h_76 : M_73 q_10 = some (.inr (0, [])) := by rw [eM_73]; exact (va_up_ne _ _ (Ne.symm hn_15)).trans h_70
  have h_77 : M_73 q_25 = some (.inr (0, [])) := by rw [eM_73]; exact (va_up_ne _ _ (Ne.symm hn_28)).trans h_71
  have fr_78 : ∀ a, a ≠ q_1 → a ≠ q_10 → a ≠ q → a ≠ q_25 → M_73 a = T a := fun a z0 z1 z2 z3 => by rw [eM_73]; exact (va_up_ne _ _ z2).trans (fr_72 a z0 z1 z2 z3)
  refine lv_aload_n hx hb dX4_init_56 rfl (lv_at hl 0 rfl) ?_
  refine lv_iload_n hx hb dX4_init_57 rfl (lv_at hl 3 rfl) ?_
  refine zt_putF hx hb hts in_X4 tyX4 tyX4_ok nmX4 hown hK.1 hT hS h_74 rfl 2 (by decide) (hts _ q386) (fun _ h => h) rfl hnm rfl (v := .int a0) (tyX4_ok 2 (by decide)) rfl rfl (show 2 < 20 from by decide) dX4_init_58 (fun H locs hT hS => ?_)
  obtain ⟨M_79, eM_79⟩ : ∃ M0 : zT, M0 = va_up M_73 q (some (.inl (zo 3 [.int n0, .int k0, .int a0, .int 0, .ref q_1, .ref q_25, .int 0, .int 0, .int 0, .int 0, .int 0, .int 0, .int 0, .int 0, .int 9000, .int 300, .int 0, .int (-1), .int 0, .int 0]))) := ⟨_, rfl⟩
  have hT : zTH g A M_79 H := by rw [eM_79]; exact hT
  have h_80 : M_79 q = some (.inl (zo 3 [.int n0, .int k0, .int a0, .int 0, .ref q_1, .ref q_25, .int 0, .int 0, .int 0, .int 0, .int 0, .int 0, .int 0, .int 0, .int 9000, .int 300, .int 0, .int (-1), .int 0, .int 0])) := by rw [eM_79]; exact va_up_self _ _ _
  have h_81 : M_79 q_1 = some (.inl (zo 4 [.ref q_10, .null])) := by rw [eM_79]; exact (va_up_ne _ _ (Ne.symm hn_4)).trans h_75
  have h_82 : M_79 q_10 = some (.inr (0, [])) := by rw [eM_79]; exact (va_up_ne _ _ (Ne.symm hn_15)).trans h_76
  have h_83 : M_79 q_25 = some (.inr (0, [])) := by rw [eM_79]; exact (va_up_ne _ _ (Ne.symm hn_28)).trans h_77
  have fr_84 : ∀ a, a ≠ q_1 → a ≠ q_10 → a ≠ q → a ≠ q_25 → M_79 a = T a := fun a z0 z1 z2 z3 => by rw [eM_79]; exact (va_up_ne _ _ z2).trans (fr_78 a z0 z1 z2 z3)
  refine lv_aload_n hx hb dX4_init_61 rfl (lv_at hl 0 rfl) ?_
  refine lv_iload hx hb dX4_init_62 (lv_at hl 4 rfl) ?_
  refine zt_putF hx hb hts in_X4 tyX4 tyX4_ok nmX4 hown hK.1 hT hS h_80 rfl 3 (by decide) (hts _ q388) (fun _ h => h) rfl hnm rfl (v := .int d0) (tyX4_ok 3 (by decide)) rfl rfl (show 3 < 20 from by decide) dX4_init_64 (fun H locs hT hS => ?_)
  obtain ⟨M_85, eM_85⟩ : ∃ M0 : zT, M0 = va_up M_79 q (some (.inl (zo 3 [.int n0, .int k0, .int a0, .int d0, .ref q_1, .ref q_25, .int 0, .int 0, .int 0, .int 0, .int 0, .int 0, .int 0, .int 0, .int 9000, .int 300, .int 0, .int (-1), .int 0, .int 0]))) := ⟨_, rfl⟩
  have hT : zTH g A M_85 H := by rw [eM_85]; exact hT
  have h_86 : M_85 q = some (.inl (zo 3 [.int n0, .int k0, .int a0, .int d0, .ref q_1, .ref q_25, .int 0, .int 0, .int 0, .int 0, .int 0, .int 0, .int 0, .int 0, .int 9000, .int 300, .int 0, .int (-1), .int 0, .int 0])) := by rw [eM_85]; exact va_up_self _ _ _
  have h_87 : M_85 q_1 = some (.inl (zo 4 [.ref q_10, .null])) := by rw [eM_85]; exact (va_up_ne _ _ (Ne.symm hn_4)).trans h_81
  have h_88 : M_85 q_10 = some (.inr (0, [])) := by rw [eM_85]; exact (va_up_ne _ _ (Ne.symm hn_15)).trans h_82
  have h_89 : M_85 q_25 = some (.inr (0, [])) := by rw [eM_85]; exact (va_up_ne _ _ (Ne.symm hn_28)).trans h_83
  have fr_90 : ∀ a, a ≠ q_1 → a ≠ q_10 → a ≠ q → a ≠ q_25 → M_85 a = T a := fun a z0 z1 z2 z3 => by rw [eM_85]; exact (va_up_ne _ _ z2).trans (fr_84 a z0 z1 z2 z3)
  exact ze_v hx hb hr hlocks hS dX4_init_67 (by decide) (by decide) (M_85, q_1, q_10, q_25) ⟨⟨hf_5, hf_17, hf_31⟩, ⟨hn_16, hn_29, hn_30⟩, h_86, h_87, h_88, h_89, fun a z0 z1 z2 z3 => fr_90 a z1 z2 z0 z3⟩ hT
theorem zn_X1_init : zN yX1_init 0 := by decide +kernel
set_option maxHeartbeats 4000000 in
theorem ct_X1_init (l : Launch) (g : zG) (A : Nat → Prop) (T : zT) (q : Nat) (hq_ : T q = some (.inl (zo 0 [.null, .null, .null, .null, .null, .null, .null, .null, .null, .int 0]))) : Met l yX1_init (ws_ yX1_init cX1_init 2 none) (zR 8 16 533) (zP [.ref q] g A (zTH g A T)) (va_Qv (fun (u : zT × (Nat → Nat)) => u.2 0 = q ∧ zSy (zS0 u.2) g (fun _ _ => 0) u.1) (fun u t => zTH g A u.1 t.heap) A) 16 533 A := by
  refine zb_met (by decide) (Nat.le_of_ble_eq_true rfl) ?_
  intro p e s m args below meth c ls hx hb hr hml hown hts hlocks hnm hK hT ha_ hl
  have hown : s.vm.findClass RX1 = some m.cls := hown
  have hS : va_S A s.heap s.heap [] := va_S.rf
  have hl : lv_has ls 2 [(0, .ref q)] := hl
  have hfr0 : ∀ a, T a = T a := fun a => rfl
  refine lv_aload_n hx hb dX1_init_0 rfl (lv_at hl 0 rfl) ?_
  refine W.objInit hx hb hown (hts _ q71) (hts _ q72) (hts _ q73) rfl (by rw [hml]; exact hl.1) rfl dX1_init_1 (Nat.le_of_ble_eq_true rfl) (Nat.le_of_ble_eq_true rfl) ?_
  refine W.eq (g2 := F0 m 4 ls []) rfl ?_
  refine lv_aload_n hx hb dX1_init_4 rfl (lv_at hl 0 rfl) ?_
  refine zt_new hx hb hts in_X2 tyX2 tyX2_ok hown (hts _ q74) (hts _ q75) (hts _ q40) hK.1 hT hS (ci := 1) rfl (fs := [.null]) (by decide) (by show _ + 1 ≤ 16; omega) (by show _ + 1 ≤ 533; omega) dX1_init_5 (fun q_1 H hq_2 hT hS => ?_)
  obtain ⟨M_3, eM_3⟩ : ∃ M0 : zT, M0 = va_up T q_1 (some (.inl (zo 1 [.null]))) := ⟨_, rfl⟩
  have hT : zTH g A M_3 H := by rw [eM_3]; exact hT
  have hn_4 : q ≠ q_1 := fun z => by rw [z, hq_2] at hq_; cases hq_
  have hf_5 : T q_1 = none := (hfr0 q_1).symm.trans hq_2
  have h_6 : M_3 q_1 = some (.inl (zo 1 [.null])) := by rw [eM_3]; exact va_up_self _ _ _
  have h_7 : M_3 q = some (.inl (zo 0 [.null, .null, .null, .null, .null, .null, .null, .null, .null, .int 0])) := by rw [eM_3]; exact (va_up_ne _ _ hn_4).trans hq_
  have fr_8 : ∀ a, a ≠ q_1 → M_3 a = T a := fun a z0 => by rw [eM_3]; exact (va_up_ne _ _ z0).trans (hfr0 a)
  refine lv_dup hx hb dX1_init_8 rfl ?_
  refine zc_v (zr_IN (As := []) (rest := [.ref q_1, .ref q]) ⟨hx, hb, hml, hown, hts⟩ (ct_X2_init l g A _ q_1 h_6) zn_X2_init q78 q40 q76 q77 rfl (by decide) (by decide) hK (fun _ h => h) hS hT rfl hl.1 (Nat.le_of_ble_eq_true rfl) dX1_init_9 ⟨by show _ + 1 ≤ _; omega, by show _ + 3 ≤ _; omega⟩) hS (fun _ h => h) (fun u H locs hu hT _ _ hS => ?_)
  obtain ⟨M_9, q_10⟩ := u
  obtain ⟨h_11, h_12, h_13, h_14⟩ := hu
  dsimp only at h_11 h_12 h_13 h_14 hT
  have hn_15 : q ≠ q_10 := fun z => by have z1 := h_7; rw [z, h_11] at z1; cases z1
  have hn_16 : q_1 ≠ q_10 := fun z => by have z1 := h_6; rw [z, h_11] at z1; cases z1
  have hf_17 : T q_10 = none := (fr_8 q_10 (Ne.symm hn_16)).symm.trans h_11
  have h_18 := (h_14 q hn_4 hn_15).trans h_7
  have fr_19 : ∀ a, a ≠ q_1 → a ≠ q_10 → M_9 a = T a := fun a z0 z1 => (h_14 a z0 z1).trans (fr_8 a z0)
  refine zt_putF hx hb hts in_X1 tyX1 tyX1_ok nmX1 hown hK.1 hT hS h_18 rfl 0 (by decide) (hts _ q177) (fun _ h => h) rfl hnm rfl (v := .ref q_1) (tyX1_ok 0 (by decide)) rfl rfl (show 0 < 10 from by decide) dX1_init_12 (fun H locs hT hS => ?_)
  obtain ⟨M_20, eM_20⟩ : ∃ M0 : zT, M0 = va_up M_9 q (some (.inl (zo 0 [.ref q_1, .null, .null, .null, .null, .null, .null, .null, .null, .int 0]))) := ⟨_, rfl⟩
  have hT : zTH g A M_20 H := by rw [eM_20]; exact hT
  have h_21 : M_20 q = some (.inl (zo 0 [.ref q_1, .null, .null, .null, .null, .null, .null, .null, .null, .int 0])) := by rw [eM_20]; exact va_up_self _ _ _
  have h_22 : M_20 q_1 = some (.inl (zo 1 [.ref q_10])) := by rw [eM_20]; exact (va_up_ne _ _ (Ne.symm hn_4)).trans h_13
  have h_23 : M_20 q_10 = some (.inr (0, [])) := by rw [eM_20]; exact (va_up_ne _ _ (Ne.symm hn_15)).trans h_12
  have fr_24 : ∀ a, a ≠ q_1 → a ≠ q_10 → a ≠ q → M_20 a = T a := fun a z0 z1 z2 => by rw [eM_20]; exact (va_up_ne _ _ z2).trans (fr_19 a z0 z1)
  refine lv_aload_n hx hb dX1_init_15 rfl (lv_at hl 0 rfl) ?_
  refine lv_iconst (v := 5) hx hb dX1_init_16 (by decide) ?_
  refine zm_topi (y := nI 5) rfl ?_
  refine zt_newI hx hb (hts _ q208) hK.1 hT hS (n := 5) (by decide) (by show _ + 1 ≤ 16; omega) (by show _ + 5 ≤ 533; omega) dX1_init_17 (fun q_25 H hq_26 hT hS => ?_)
  obtain ⟨M_27, eM_27⟩ : ∃ M0 : zT, M0 = va_up M_20 q_25 (some (.inl (zI g 5 (fun _ => 0)))) := ⟨_, rfl⟩
  have hT : zTH g A M_27 H := by rw [eM_27]; exact hT
  have hn_28 : q ≠ q_25 := fun z => by rw [z, hq_26] at h_21; cases h_21
  have hn_29 : q_1 ≠ q_25 := fun z => by rw [z, hq_26] at h_22; cases h_22
  have hn_30 : q_10 ≠ q_25 := fun z => by rw [z, hq_26] at h_23; cases h_23
  have hf_31 : T q_25 = none := (fr_24 q_25 (Ne.symm hn_29) (Ne.symm hn_30) (Ne.symm hn_28)).symm.trans hq_26
  have h_32 : M_27 q_25 = some (.inl (zI g 5 (fun _ => 0))) := by rw [eM_27]; exact va_up_self _ _ _
  have h_33 : M_27 q = some (.inl (zo 0 [.ref q_1, .null, .null, .null, .null, .null, .null, .null, .null, .int 0])) := by rw [eM_27]; exact (va_up_ne _ _ hn_28).trans h_21
  have h_34 : M_27 q_1 = some (.inl (zo 1 [.ref q_10])) := by rw [eM_27]; exact (va_up_ne _ _ hn_29).trans h_22
  have h_35 : M_27 q_10 = some (.inr (0, [])) := by rw [eM_27]; exact (va_up_ne _ _ hn_30).trans h_23
  have fr_36 : ∀ a, a ≠ q_1 → a ≠ q_10 → a ≠ q → a ≠ q_25 → M_27 a = T a := fun a z0 z1 z2 z3 => by rw [eM_27]; exact (va_up_ne _ _ z3).trans (fr_24 a z0 z1 z2)
  refine zt_putF hx hb hts in_X1 tyX1 tyX1_ok nmX1 hown hK.1 hT hS h_33 rfl 1 (by decide) (hts _ q178) (fun _ h => h) rfl hnm rfl (v := .ref q_25) (tyX1_ok 1 (by decide)) rfl rfl (show 1 < 10 from by decide) dX1_init_19 (fun H locs hT hS => ?_)
  obtain ⟨M_37, eM_37⟩ : ∃ M0 : zT, M0 = va_up M_27 q (some (.inl (zo 0 [.ref q_1, .ref q_25, .null, .null, .null, .null, .null, .null, .null, .int 0]))) := ⟨_, rfl⟩
  have hT : zTH g A M_37 H := by rw [eM_37]; exact hT
  have h_38 : M_37 q = some (.inl (zo 0 [.ref q_1, .ref q_25, .null, .null, .null, .null, .null, .null, .null, .int 0])) := by rw [eM_37]; exact va_up_self _ _ _
  have h_39 : M_37 q_1 = some (.inl (zo 1 [.ref q_10])) := by rw [eM_37]; exact (va_up_ne _ _ (Ne.symm hn_4)).trans h_34
  have h_40 : M_37 q_10 = some (.inr (0, [])) := by rw [eM_37]; exact (va_up_ne _ _ (Ne.symm hn_15)).trans h_35
  have h_41 : M_37 q_25 = some (.inl (zI g 5 (fun _ => 0))) := by rw [eM_37]; exact (va_up_ne _ _ (Ne.symm hn_28)).trans h_32
  have fr_42 : ∀ a, a ≠ q_1 → a ≠ q_10 → a ≠ q → a ≠ q_25 → M_37 a = T a := fun a z0 z1 z2 z3 => by rw [eM_37]; exact (va_up_ne _ _ z2).trans (fr_36 a z0 z1 z2 z3)
  refine lv_aload_n hx hb dX1_init_22 rfl (lv_at hl 0 rfl) ?_
  refine lv_iconst (v := 5) hx hb dX1_init_23 (by decide) ?_
  refine zm_topi (y := nI 5) rfl ?_
  refine zt_newI hx hb (hts _ q208) hK.1 hT hS (n := 5) (by decide) (by show _ + 1 ≤ 16; omega) (by show _ + 5 ≤ 533; omega) dX1_init_24 (fun q_43 H hq_44 hT hS => ?_)
  obtain ⟨M_45, eM_45⟩ : ∃ M0 : zT, M0 = va_up M_37 q_43 (some (.inl (zI g 5 (fun _ => 0)))) := ⟨_, rfl⟩
  have hT : zTH g A M_45 H := by rw [eM_45]; exact hT
  have hn_46 : q ≠ q_43 := fun z => by rw [z, hq_44] at h_38; cases h_38
  have hn_47 : q_1 ≠ q_43 := fun z => by rw [z, hq_44] at h_39; cases h_39
  have hn_48 : q_10 ≠ q_43 := fun z => by rw [z, hq_44] at h_40; cases h_40
  have hn_49 : q_25 ≠ q_43 := fun z => by rw [z, hq_44] at h_41; cases h_41
  have hf_50 : T q_43 = none := (fr_42 q_43 (Ne.symm hn_47) (Ne.symm hn_48) (Ne.symm hn_46) (Ne.symm hn_49)).symm.trans hq_44
  have h_51 : M_45 q_43 = some (.inl (zI g 5 (fun _ => 0))) := by rw [eM_45]; exact va_up_self _ _ _
  have h_52 : M_45 q = some (.inl (zo 0 [.ref q_1, .ref q_25, .null, .null, .null, .null, .null, .null, .null, .int 0])) := by rw [eM_45]; exact (va_up_ne _ _ hn_46).trans h_38
  have h_53 : M_45 q_1 = some (.inl (zo 1 [.ref q_10])) := by rw [eM_45]; exact (va_up_ne _ _ hn_47).trans h_39
  have h_54 : M_45 q_10 = some (.inr (0, [])) := by rw [eM_45]; exact (va_up_ne _ _ hn_48).trans h_40
  have h_55 : M_45 q_25 = some (.inl (zI g 5 (fun _ => 0))) := by rw [eM_45]; exact (va_up_ne _ _ hn_49).trans h_41
  have fr_56 : ∀ a, a ≠ q_1 → a ≠ q_10 → a ≠ q → a ≠ q_25 → a ≠ q_43 → M_45 a = T a := fun a z0 z1 z2 z3 z4 => by rw [eM_45]; exact (va_up_ne _ _ z4).trans (fr_42 a z0 z1 z2 z3)
  refine zt_putF hx hb hts in_X1 tyX1 tyX1_ok nmX1 hown hK.1 hT hS h_52 rfl 2 (by decide) (hts _ q179) (fun _ h => h) rfl hnm rfl (v := .ref q_43) (tyX1_ok 2 (by decide)) rfl rfl (show 2 < 10 from by decide) dX1_init_26 (fun H locs hT hS => ?_)
  obtain ⟨M_57, eM_57⟩ : ∃ M0 : zT, M0 = va_up M_45 q (some (.inl (zo 0 [.ref q_1, .ref q_25, .ref q_43, .null, .null, .null, .null, .null, .null, .int 0]))) := ⟨_, rfl⟩
  have hT : zTH g A M_57 H := by rw [eM_57]; exact hT
  have h_58 : M_57 q = some (.inl (zo 0 [.ref q_1, .ref q_25, .ref q_43, .null, .null, .null, .null, .null, .null, .int 0])) := by rw [eM_57]; exact va_up_self _ _ _
  have h_59 : M_57 q_1 = some (.inl (zo 1 [.ref q_10])) := by rw [eM_57]; exact (va_up_ne _ _ (Ne.symm hn_4)).trans h_53
  have h_60 : M_57 q_10 = some (.inr (0, [])) := by rw [eM_57]; exact (va_up_ne _ _ (Ne.symm hn_15)).trans h_54
  have h_61 : M_57 q_25 = some (.inl (zI g 5 (fun _ => 0))) := by rw [eM_57]; exact (va_up_ne _ _ (Ne.symm hn_28)).trans h_55
  have h_62 : M_57 q_43 = some (.inl (zI g 5 (fun _ => 0))) := by rw [eM_57]; exact (va_up_ne _ _ (Ne.symm hn_46)).trans h_51
  have fr_63 : ∀ a, a ≠ q_1 → a ≠ q_10 → a ≠ q → a ≠ q_25 → a ≠ q_43 → M_57 a = T a := fun a z0 z1 z2 z3 z4 => by rw [eM_57]; exact (va_up_ne _ _ z2).trans (fr_56 a z0 z1 z2 z3 z4)
  refine lv_aload_n hx hb dX1_init_29 rfl (lv_at hl 0 rfl) ?_
  refine lv_iconst (v := 5) hx hb dX1_init_30 (by decide) ?_
  refine zm_topi (y := nI 5) rfl ?_
  refine zt_newI hx hb (hts _ q208) hK.1 hT hS (n := 5) (by decide) (by show _ + 1 ≤ 16; omega) (by show _ + 5 ≤ 533; omega) dX1_init_31 (fun q_64 H hq_65 hT hS => ?_)
  obtain ⟨M_66, eM_66⟩ : ∃ M0 : zT, M0 = va_up M_57 q_64 (some (.inl (zI g 5 (fun _ => 0)))) := ⟨_, rfl⟩
  have hT : zTH g A M_66 H := by rw [eM_66]; exact hT
  have hn_67 : q ≠ q_64 := fun z => by rw [z, hq_65] at h_58; cases h_58
  have hn_68 : q_1 ≠ q_64 := fun z => by rw [z, hq_65] at h_59; cases h_59
  have hn_69 : q_10 ≠ q_64 := fun z => by rw [z, hq_65] at h_60; cases h_60
  have hn_70 : q_25 ≠ q_64 := fun z => by rw [z, hq_65] at h_61; cases h_61
  have hn_71 : q_43 ≠ q_64 := fun z => by rw [z, hq_65] at h_62; cases h_62
  have hf_72 : T q_64 = none := (fr_63 q_64 (Ne.symm hn_68) (Ne.symm hn_69) (Ne.symm hn_67) (Ne.symm hn_70) (Ne.symm hn_71)).symm.trans hq_65
  have h_73 : M_66 q_64 = some (.inl (zI g 5 (fun _ => 0))) := by rw [eM_66]; exact va_up_self _ _ _
  have h_74 : M_66 q = some (.inl (zo 0 [.ref q_1, .ref q_25, .ref q_43, .null, .null, .null, .null, .null, .null, .int 0])) := by rw [eM_66]; exact (va_up_ne _ _ hn_67).trans h_58
  have h_75 : M_66 q_1 = some (.inl (zo 1 [.ref q_10])) := by rw [eM_66]; exact (va_up_ne _ _ hn_68).trans h_59
  have h_76 : M_66 q_10 = some (.inr (0, [])) := by rw [eM_66]; exact (va_up_ne _ _ hn_69).trans h_60
  have h_77 : M_66 q_25 = some (.inl (zI g 5 (fun _ => 0))) := by rw [eM_66]; exact (va_up_ne _ _ hn_70).trans h_61
  have h_78 : M_66 q_43 = some (.inl (zI g 5 (fun _ => 0))) := by rw [eM_66]; exact (va_up_ne _ _ hn_71).trans h_62
  have fr_79 : ∀ a, a ≠ q_1 → a ≠ q_10 → a ≠ q → a ≠ q_25 → a ≠ q_43 → a ≠ q_64 → M_66 a = T a := fun a z0 z1 z2 z3 z4 z5 => by rw [eM_66]; exact (va_up_ne _ _ z5).trans (fr_63 a z0 z1 z2 z3 z4)
  refine zt_putF hx hb hts in_X1 tyX1 tyX1_ok nmX1 hown hK.1 hT hS h_74 rfl 3 (by decide) (hts _ q180) (fun _ h => h) rfl hnm rfl (v := .ref q_64) (tyX1_ok 3 (by decide)) rfl rfl (show 3 < 10 from by decide) dX1_init_33 (fun H locs hT hS => ?_)
  obtain ⟨M_80, eM_80⟩ : ∃ M0 : zT, M0 = va_up M_66 q (some (.inl (zo 0 [.ref q_1, .ref q_25, .ref q_43, .ref q_64, .null, .null, .null, .null, .null, .int 0]))) := ⟨_, rfl⟩
  have hT : zTH g A M_80 H := by rw [eM_80]; exact hT
  have h_81 : M_80 q = some (.inl (zo 0 [.ref q_1, .ref q_25, .ref q_43, .ref q_64, .null, .null, .null, .null, .null, .int 0])) := by rw [eM_80]; exact va_up_self _ _ _
  have h_82 : M_80 q_1 = some (.inl (zo 1 [.ref q_10])) := by rw [eM_80]; exact (va_up_ne _ _ (Ne.symm hn_4)).trans h_75
  have h_83 : M_80 q_10 = some (.inr (0, [])) := by rw [eM_80]; exact (va_up_ne _ _ (Ne.symm hn_15)).trans h_76
  have h_84 : M_80 q_25 = some (.inl (zI g 5 (fun _ => 0))) := by rw [eM_80]; exact (va_up_ne _ _ (Ne.symm hn_28)).trans h_77
  have h_85 : M_80 q_43 = some (.inl (zI g 5 (fun _ => 0))) := by rw [eM_80]; exact (va_up_ne _ _ (Ne.symm hn_46)).trans h_78
  have h_86 : M_80 q_64 = some (.inl (zI g 5 (fun _ => 0))) := by rw [eM_80]; exact (va_up_ne _ _ (Ne.symm hn_67)).trans h_73
  have fr_87 : ∀ a, a ≠ q_1 → a ≠ q_10 → a ≠ q → a ≠ q_25 → a ≠ q_43 → a ≠ q_64 → M_80 a = T a := fun a z0 z1 z2 z3 z4 z5 => by rw [eM_80]; exact (va_up_ne _ _ z2).trans (fr_79 a z0 z1 z2 z3 z4 z5)
  refine lv_aload_n hx hb dX1_init_36 rfl (lv_at hl 0 rfl) ?_
  refine zt_new hx hb hts in_J2 tyJ2 tyJ2_ok hown (hts _ q113) (hts _ q81) (hts _ q43) hK.1 hT hS (ci := 9) rfl (fs := [.int 0, .null, .int 0]) (by decide) (by show _ + 1 ≤ 16; omega) (by show _ + 3 ≤ 533; omega) dX1_init_37 (fun q_88 H hq_89 hT hS => ?_)
  obtain ⟨M_90, eM_90⟩ : ∃ M0 : zT, M0 = va_up M_80 q_88 (some (.inl (zo 9 [.int 0, .null, .int 0]))) := ⟨_, rfl⟩
  have hT : zTH g A M_90 H := by rw [eM_90]; exact hT
  have hn_91 : q ≠ q_88 := fun z => by rw [z, hq_89] at h_81; cases h_81
  have hn_92 : q_1 ≠ q_88 := fun z => by rw [z, hq_89] at h_82; cases h_82
  have hn_93 : q_10 ≠ q_88 := fun z => by rw [z, hq_89] at h_83; cases h_83
  have hn_94 : q_25 ≠ q_88 := fun z => by rw [z, hq_89] at h_84; cases h_84
  have hn_95 : q_43 ≠ q_88 := fun z => by rw [z, hq_89] at h_85; cases h_85
  have hn_96 : q_64 ≠ q_88 := fun z => by rw [z, hq_89] at h_86; cases h_86
  have hf_97 : T q_88 = none := (fr_87 q_88 (Ne.symm hn_92) (Ne.symm hn_93) (Ne.symm hn_91) (Ne.symm hn_94) (Ne.symm hn_95) (Ne.symm hn_96)).symm.trans hq_89
  have h_98 : M_90 q_88 = some (.inl (zo 9 [.int 0, .null, .int 0])) := by rw [eM_90]; exact va_up_self _ _ _
  have h_99 : M_90 q = some (.inl (zo 0 [.ref q_1, .ref q_25, .ref q_43, .ref q_64, .null, .null, .null, .null, .null, .int 0])) := by rw [eM_90]; exact (va_up_ne _ _ hn_91).trans h_81
  have h_100 : M_90 q_1 = some (.inl (zo 1 [.ref q_10])) := by rw [eM_90]; exact (va_up_ne _ _ hn_92).trans h_82
  have h_101 : M_90 q_10 = some (.inr (0, [])) := by rw [eM_90]; exact (va_up_ne _ _ hn_93).trans h_83
  have h_102 : M_90 q_25 = some (.inl (zI g 5 (fun _ => 0))) := by rw [eM_90]; exact (va_up_ne _ _ hn_94).trans h_84
  have h_103 : M_90 q_43 = some (.inl (zI g 5 (fun _ => 0))) := by rw [eM_90]; exact (va_up_ne _ _ hn_95).trans h_85
  have h_104 : M_90 q_64 = some (.inl (zI g 5 (fun _ => 0))) := by rw [eM_90]; exact (va_up_ne _ _ hn_96).trans h_86
  have fr_105 : ∀ a, a ≠ q_1 → a ≠ q_10 → a ≠ q → a ≠ q_25 → a ≠ q_43 → a ≠ q_64 → a ≠ q_88 → M_90 a = T a := fun a z0 z1 z2 z3 z4 z5 z6 => by rw [eM_90]; exact (va_up_ne _ _ z6).trans (fr_87 a z0 z1 z2 z3 z4 z5)
  refine lv_dup hx hb dX1_init_40 rfl ?_
  refine zc_v (zr_I (As := []) (rest := [.ref q_88, .ref q]) ⟨hx, hb, hml, hown, hts⟩ (ct_J2_init l g A _ q_88 h_98) zn_J2_init q84 q43 q114 q83 rfl (by decide) (by decide) hK (fun _ h => h) hS hT rfl hl.1 (Nat.le_of_ble_eq_true rfl) dX1_init_41 ⟨by show _ + 0 ≤ _; omega, by show _ + 0 ≤ _; omega⟩) hS (fun _ h => h) (fun _ H locs _ hT _ _ hS => ?_)
  obtain ⟨M_106, eM_106⟩ : ∃ M0 : zT, M0 = va_up M_90 q_88 (some (.inr (0, []))) := ⟨_, rfl⟩
  have hT : zTH g A M_106 H := by rw [eM_106]; exact hT
  have h_107 : M_106 q_88 = some (.inr (0, [])) := by rw [eM_106]; exact va_up_self _ _ _
  have h_108 : M_106 q = some (.inl (zo 0 [.ref q_1, .ref q_25, .ref q_43, .ref q_64, .null, .null, .null, .null, .null, .int 0])) := by rw [eM_106]; exact (va_up_ne _ _ hn_91).trans h_99
  have h_109 : M_106 q_1 = some (.inl (zo 1 [.ref q_10])) := by rw [eM_106]; exact (va_up_ne _ _ hn_92).trans h_100
  have h_110 : M_106 q_10 = some (.inr (0, [])) := by rw [eM_106]; exact (va_up_ne _ _ hn_93).trans h_101
  have h_111 : M_106 q_25 = some (.inl (zI g 5 (fun _ => 0))) := by rw [eM_106]; exact (va_up_ne _ _ hn_94).trans h_102
  have h_112 : M_106 q_43 = some (.inl (zI g 5 (fun _ => 0))) := by rw [eM_106]; exact (va_up_ne _ _ hn_95).trans h_103
  have h_113 : M_106 q_64 = some (.inl (zI g 5 (fun _ => 0))) := by rw [eM_106]; exact (va_up_ne _ _ hn_96).trans h_104
  have fr_114 : ∀ a, a ≠ q_1 → a ≠ q_10 → a ≠ q → a ≠ q_25 → a ≠ q_43 → a ≠ q_64 → a ≠ q_88 → M_106 a = T a := fun a z0 z1 z2 z3 z4 z5 z6 => by rw [eM_106]; exact (va_up_ne _ _ z6).trans (fr_105 a z0 z1 z2 z3 z4 z5 z6)
  refine zt_putF hx hb hts in_X1 tyX1 tyX1_ok nmX1 hown hK.1 hT hS h_108 rfl 4 (by decide) (hts _ q181) (fun _ h => h) rfl hnm rfl (v := .ref q_88) (tyX1_ok 4 (by decide)) rfl rfl (show 4 < 10 from by decide) dX1_init_44 (fun H locs hT hS => ?_)
  obtain ⟨M_115, eM_115⟩ : ∃ M0 : zT, M0 = va_up M_106 q (some (.inl (zo 0 [.ref q_1, .ref q_25, .ref q_43, .ref q_64, .ref q_88, .null, .null, .null, .null, .int 0]))) := ⟨_, rfl⟩
  have hT : zTH g A M_115 H := by rw [eM_115]; exact hT
  have h_116 : M_115 q = some (.inl (zo 0 [.ref q_1, .ref q_25, .ref q_43, .ref q_64, .ref q_88, .null, .null, .null, .null, .int 0])) := by rw [eM_115]; exact va_up_self _ _ _
  have h_117 : M_115 q_1 = some (.inl (zo 1 [.ref q_10])) := by rw [eM_115]; exact (va_up_ne _ _ (Ne.symm hn_4)).trans h_109
  have h_118 : M_115 q_10 = some (.inr (0, [])) := by rw [eM_115]; exact (va_up_ne _ _ (Ne.symm hn_15)).trans h_110
  have h_119 : M_115 q_25 = some (.inl (zI g 5 (fun _ => 0))) := by rw [eM_115]; exact (va_up_ne _ _ (Ne.symm hn_28)).trans h_111
  have h_120 : M_115 q_43 = some (.inl (zI g 5 (fun _ => 0))) := by rw [eM_115]; exact (va_up_ne _ _ (Ne.symm hn_46)).trans h_112
  have h_121 : M_115 q_64 = some (.inl (zI g 5 (fun _ => 0))) := by rw [eM_115]; exact (va_up_ne _ _ (Ne.symm hn_67)).trans h_113
  have h_122 : M_115 q_88 = some (.inr (0, [])) := by rw [eM_115]; exact (va_up_ne _ _ (Ne.symm hn_91)).trans h_107
  have fr_123 : ∀ a, a ≠ q_1 → a ≠ q_10 → a ≠ q → a ≠ q_25 → a ≠ q_43 → a ≠ q_64 → a ≠ q_88 → M_115 a = T a := fun a z0 z1 z2 z3 z4 z5 z6 => by rw [eM_115]; exact (va_up_ne _ _ z2).trans (fr_114 a z0 z1 z2 z3 z4 z5 z6)
  refine lv_aload_n hx hb dX1_init_47 rfl (lv_at hl 0 rfl) ?_
  refine zt_new hx hb hts in_J2 tyJ2 tyJ2_ok hown (hts _ q113) (hts _ q81) (hts _ q43) hK.1 hT hS (ci := 9) rfl (fs := [.int 0, .null, .int 0]) (by decide) (by show _ + 1 ≤ 16; omega) (by show _ + 3 ≤ 533; omega) dX1_init_48 (fun q_124 H hq_125 hT hS => ?_)
  obtain ⟨M_126, eM_126⟩ : ∃ M0 : zT, M0 = va_up M_115 q_124 (some (.inl (zo 9 [.int 0, .null, .int 0]))) := ⟨_, rfl⟩
  have hT : zTH g A M_126 H := by rw [eM_126]; exact hT
  have hn_127 : q ≠ q_124 := fun z => by rw [z, hq_125] at h_116; cases h_116
  have hn_128 : q_1 ≠ q_124 := fun z => by rw [z, hq_125] at h_117; cases h_117
  have hn_129 : q_10 ≠ q_124 := fun z => by rw [z, hq_125] at h_118; cases h_118
  have hn_130 : q_25 ≠ q_124 := fun z => by rw [z, hq_125] at h_119; cases h_119
  have hn_131 : q_43 ≠ q_124 := fun z => by rw [z, hq_125] at h_120; cases h_120
  have hn_132 : q_64 ≠ q_124 := fun z => by rw [z, hq_125] at h_121; cases h_121
  have hn_133 : q_88 ≠ q_124 := fun z => by rw [z, hq_125] at h_122; cases h_122
  have hf_134 : T q_124 = none := (fr_123 q_124 (Ne.symm hn_128) (Ne.symm hn_129) (Ne.symm hn_127) (Ne.symm hn_130) (Ne.symm hn_131) (Ne.symm hn_132) (Ne.symm hn_133)).symm.trans hq_125
  have h_135 : M_126 q_124 = some (.inl (zo 9 [.int 0, .null, .int 0])) := by rw [eM_126]; exact va_up_self _ _ _
  have h_136 : M_126 q = some (.inl (zo 0 [.ref q_1, .ref q_25, .ref q_43, .ref q_64, .ref q_88, .null, .null, .null, .null, .int 0])) := by rw [eM_126]; exact (va_up_ne _ _ hn_127).trans h_116
  have h_137 : M_126 q_1 = some (.inl (zo 1 [.ref q_10])) := by rw [eM_126]; exact (va_up_ne _ _ hn_128).trans h_117
  have h_138 : M_126 q_10 = some (.inr (0, [])) := by rw [eM_126]; exact (va_up_ne _ _ hn_129).trans h_118
  have h_139 : M_126 q_25 = some (.inl (zI g 5 (fun _ => 0))) := by rw [eM_126]; exact (va_up_ne _ _ hn_130).trans h_119
  have h_140 : M_126 q_43 = some (.inl (zI g 5 (fun _ => 0))) := by rw [eM_126]; exact (va_up_ne _ _ hn_131).trans h_120
  have h_141 : M_126 q_64 = some (.inl (zI g 5 (fun _ => 0))) := by rw [eM_126]; exact (va_up_ne _ _ hn_132).trans h_121
  have h_142 : M_126 q_88 = some (.inr (0, [])) := by rw [eM_126]; exact (va_up_ne _ _ hn_133).trans h_122
  have fr_143 : ∀ a, a ≠ q_1 → a ≠ q_10 → a ≠ q → a ≠ q_25 → a ≠ q_43 → a ≠ q_64 → a ≠ q_88 → a ≠ q_124 → M_126 a = T a := fun a z0 z1 z2 z3 z4 z5 z6 z7 => by rw [eM_126]; exact (va_up_ne _ _ z7).trans (fr_123 a z0 z1 z2 z3 z4 z5 z6)
  refine lv_dup hx hb dX1_init_51 rfl ?_
  refine zc_v (zr_I (As := []) (rest := [.ref q_124, .ref q]) ⟨hx, hb, hml, hown, hts⟩ (ct_J2_init l g A _ q_124 h_135) zn_J2_init q84 q43 q114 q83 rfl (by decide) (by decide) hK (fun _ h => h) hS hT rfl hl.1 (Nat.le_of_ble_eq_true rfl) dX1_init_52 ⟨by show _ + 0 ≤ _; omega, by show _ + 0 ≤ _; omega⟩) hS (fun _ h => h) (fun _ H locs _ hT _ _ hS => ?_)
  obtain ⟨M_144, eM_144⟩ : ∃ M0 : zT, M0 = va_up M_126 q_124 (some (.inr (0, []))) := ⟨_, rfl⟩
  have hT : zTH g A M_144 H := by rw [eM_144]; exact hT
  have h_145 : M_144 q_124 = some (.inr (0, [])) := by rw [eM_144]; exact va_up_self _ _ _
  have h_146 : M_144 q = some (.inl (zo 0 [.ref q_1, .ref q_25, .ref q_43, .ref q_64, .ref q_88, .null, .null, .null, .null, .int 0])) := by rw [eM_144]; exact (va_up_ne _ _ hn_127).trans h_136
  have h_147 : M_144 q_1 = some (.inl (zo 1 [.ref q_10])) := by rw [eM_144]; exact (va_up_ne _ _ hn_128).trans h_137
  have h_148 : M_144 q_10 = some (.inr (0, [])) := by rw [eM_144]; exact (va_up_ne _ _ hn_129).trans h_138
  have h_149 : M_144 q_25 = some (.inl (zI g 5 (fun _ => 0))) := by rw [eM_144]; exact (va_up_ne _ _ hn_130).trans h_139
  have h_150 : M_144 q_43 = some (.inl (zI g 5 (fun _ => 0))) := by rw [eM_144]; exact (va_up_ne _ _ hn_131).trans h_140
  have h_151 : M_144 q_64 = some (.inl (zI g 5 (fun _ => 0))) := by rw [eM_144]; exact (va_up_ne _ _ hn_132).trans h_141
  have h_152 : M_144 q_88 = some (.inr (0, [])) := by rw [eM_144]; exact (va_up_ne _ _ hn_133).trans h_142
  have fr_153 : ∀ a, a ≠ q_1 → a ≠ q_10 → a ≠ q → a ≠ q_25 → a ≠ q_43 → a ≠ q_64 → a ≠ q_88 → a ≠ q_124 → M_144 a = T a := fun a z0 z1 z2 z3 z4 z5 z6 z7 => by rw [eM_144]; exact (va_up_ne _ _ z7).trans (fr_143 a z0 z1 z2 z3 z4 z5 z6 z7)
  refine zt_put hx hb hts in_X1 tyX1 tyX1_ok nmX1 hown hK.1 hT hS h_146 rfl 5 (by decide) (hts _ q182) (fun _ h => h) rfl (v := .ref q_124) (tyX1_ok 5 (by decide)) rfl rfl (show 5 < 10 from by decide) dX1_init_55 (fun H locs hT hS => ?_)
  obtain ⟨M_154, eM_154⟩ : ∃ M0 : zT, M0 = va_up M_144 q (some (.inl (zo 0 [.ref q_1, .ref q_25, .ref q_43, .ref q_64, .ref q_88, .ref q_124, .null, .null, .null, .int 0]))) := ⟨_, rfl⟩
  have hT : zTH g A M_154 H := by rw [eM_154]; exact hT
  have h_155 : M_154 q = some (.inl (zo 0 [.ref q_1, .ref q_25, .ref q_43, .ref q_64, .ref q_88, .ref q_124, .null, .null, .null, .int 0])) := by rw [eM_154]; exact va_up_self _ _ _
  have h_156 : M_154 q_1 = some (.inl (zo 1 [.ref q_10])) := by rw [eM_154]; exact (va_up_ne _ _ (Ne.symm hn_4)).trans h_147
  have h_157 : M_154 q_10 = some (.inr (0, [])) := by rw [eM_154]; exact (va_up_ne _ _ (Ne.symm hn_15)).trans h_148
  have h_158 : M_154 q_25 = some (.inl (zI g 5 (fun _ => 0))) := by rw [eM_154]; exact (va_up_ne _ _ (Ne.symm hn_28)).trans h_149
  have h_159 : M_154 q_43 = some (.inl (zI g 5 (fun _ => 0))) := by rw [eM_154]; exact (va_up_ne _ _ (Ne.symm hn_46)).trans h_150
  have h_160 : M_154 q_64 = some (.inl (zI g 5 (fun _ => 0))) := by rw [eM_154]; exact (va_up_ne _ _ (Ne.symm hn_67)).trans h_151
  have h_161 : M_154 q_88 = some (.inr (0, [])) := by rw [eM_154]; exact (va_up_ne _ _ (Ne.symm hn_91)).trans h_152
  have h_162 : M_154 q_124 = some (.inr (0, [])) := by rw [eM_154]; exact (va_up_ne _ _ (Ne.symm hn_127)).trans h_145
  have fr_163 : ∀ a, a ≠ q_1 → a ≠ q_10 → a ≠ q → a ≠ q_25 → a ≠ q_43 → a ≠ q_64 → a ≠ q_88 → a ≠ q_124 → M_154 a = T a := fun a z0 z1 z2 z3 z4 z5 z6 z7 => by rw [eM_154]; exact (va_up_ne _ _ z2).trans (fr_153 a z0 z1 z2 z3 z4 z5 z6 z7)
  refine lv_aload_n hx hb dX1_init_58 rfl (lv_at hl 0 rfl) ?_
  refine zt_new hx hb hts in_J2 tyJ2 tyJ2_ok hown (hts _ q113) (hts _ q81) (hts _ q43) hK.1 hT hS (ci := 9) rfl (fs := [.int 0, .null, .int 0]) (by decide) (by show _ + 1 ≤ 16; omega) (by show _ + 3 ≤ 533; omega) dX1_init_59 (fun q_164 H hq_165 hT hS => ?_)
  obtain ⟨M_166, eM_166⟩ : ∃ M0 : zT, M0 = va_up M_154 q_164 (some (.inl (zo 9 [.int 0, .null, .int 0]))) := ⟨_, rfl⟩
  have hT : zTH g A M_166 H := by rw [eM_166]; exact hT
  have hn_167 : q ≠ q_164 := fun z => by rw [z, hq_165] at h_155; cases h_155
  have hn_168 : q_1 ≠ q_164 := fun z => by rw [z, hq_165] at h_156; cases h_156
  have hn_169 : q_10 ≠ q_164 := fun z => by rw [z, hq_165] at h_157; cases h_157
  have hn_170 : q_25 ≠ q_164 := fun z => by rw [z, hq_165] at h_158; cases h_158
  have hn_171 : q_43 ≠ q_164 := fun z => by rw [z, hq_165] at h_159; cases h_159
  have hn_172 : q_64 ≠ q_164 := fun z => by rw [z, hq_165] at h_160; cases h_160
  have hn_173 : q_88 ≠ q_164 := fun z => by rw [z, hq_165] at h_161; cases h_161
  have hn_174 : q_124 ≠ q_164 := fun z => by rw [z, hq_165] at h_162; cases h_162
  have hf_175 : T q_164 = none := (fr_163 q_164 (Ne.symm hn_168) (Ne.symm hn_169) (Ne.symm hn_167) (Ne.symm hn_170) (Ne.symm hn_171) (Ne.symm hn_172) (Ne.symm hn_173) (Ne.symm hn_174)).symm.trans hq_165
  have h_176 : M_166 q_164 = some (.inl (zo 9 [.int 0, .null, .int 0])) := by rw [eM_166]; exact va_up_self _ _ _
  have h_177 : M_166 q = some (.inl (zo 0 [.ref q_1, .ref q_25, .ref q_43, .ref q_64, .ref q_88, .ref q_124, .null, .null, .null, .int 0])) := by rw [eM_166]; exact (va_up_ne _ _ hn_167).trans h_155
  have h_178 : M_166 q_1 = some (.inl (zo 1 [.ref q_10])) := by rw [eM_166]; exact (va_up_ne _ _ hn_168).trans h_156
  have h_179 : M_166 q_10 = some (.inr (0, [])) := by rw [eM_166]; exact (va_up_ne _ _ hn_169).trans h_157
  have h_180 : M_166 q_25 = some (.inl (zI g 5 (fun _ => 0))) := by rw [eM_166]; exact (va_up_ne _ _ hn_170).trans h_158
  have h_181 : M_166 q_43 = some (.inl (zI g 5 (fun _ => 0))) := by rw [eM_166]; exact (va_up_ne _ _ hn_171).trans h_159
  have h_182 : M_166 q_64 = some (.inl (zI g 5 (fun _ => 0))) := by rw [eM_166]; exact (va_up_ne _ _ hn_172).trans h_160
  have h_183 : M_166 q_88 = some (.inr (0, [])) := by rw [eM_166]; exact (va_up_ne _ _ hn_173).trans h_161
  have h_184 : M_166 q_124 = some (.inr (0, [])) := by rw [eM_166]; exact (va_up_ne _ _ hn_174).trans h_162
  have fr_185 : ∀ a, a ≠ q_1 → a ≠ q_10 → a ≠ q → a ≠ q_25 → a ≠ q_43 → a ≠ q_64 → a ≠ q_88 → a ≠ q_124 → a ≠ q_164 → M_166 a = T a := fun a z0 z1 z2 z3 z4 z5 z6 z7 z8 => by rw [eM_166]; exact (va_up_ne _ _ z8).trans (fr_163 a z0 z1 z2 z3 z4 z5 z6 z7)
  refine lv_dup hx hb dX1_init_62 rfl ?_
  refine zc_v (zr_I (As := []) (rest := [.ref q_164, .ref q]) ⟨hx, hb, hml, hown, hts⟩ (ct_J2_init l g A _ q_164 h_176) zn_J2_init q84 q43 q114 q83 rfl (by decide) (by decide) hK (fun _ h => h) hS hT rfl hl.1 (Nat.le_of_ble_eq_true rfl) dX1_init_63 ⟨by show _ + 0 ≤ _; omega, by show _ + 0 ≤ _; omega⟩) hS (fun _ h => h) (fun _ H locs _ hT _ _ hS => ?_)
  obtain ⟨M_186, eM_186⟩ : ∃ M0 : zT, M0 = va_up M_166 q_164 (some (.inr (0, []))) := ⟨_, rfl⟩
  have hT : zTH g A M_186 H := by rw [eM_186]; exact hT
  have h_187 : M_186 q_164 = some (.inr (0, [])) := by rw [eM_186]; exact va_up_self _ _ _
  have h_188 : M_186 q = some (.inl (zo 0 [.ref q_1, .ref q_25, .ref q_43, .ref q_64, .ref q_88, .ref q_124, .null, .null, .null, .int 0])) := by rw [eM_186]; exact (va_up_ne _ _ hn_167).trans h_177
  have h_189 : M_186 q_1 = some (.inl (zo 1 [.ref q_10])) := by rw [eM_186]; exact (va_up_ne _ _ hn_168).trans h_178
  have h_190 : M_186 q_10 = some (.inr (0, [])) := by rw [eM_186]; exact (va_up_ne _ _ hn_169).trans h_179
  have h_191 : M_186 q_25 = some (.inl (zI g 5 (fun _ => 0))) := by rw [eM_186]; exact (va_up_ne _ _ hn_170).trans h_180
  have h_192 : M_186 q_43 = some (.inl (zI g 5 (fun _ => 0))) := by rw [eM_186]; exact (va_up_ne _ _ hn_171).trans h_181
  have h_193 : M_186 q_64 = some (.inl (zI g 5 (fun _ => 0))) := by rw [eM_186]; exact (va_up_ne _ _ hn_172).trans h_182
  have h_194 : M_186 q_88 = some (.inr (0, [])) := by rw [eM_186]; exact (va_up_ne _ _ hn_173).trans h_183
  have h_195 : M_186 q_124 = some (.inr (0, [])) := by rw [eM_186]; exact (va_up_ne _ _ hn_174).trans h_184
  have fr_196 : ∀ a, a ≠ q_1 → a ≠ q_10 → a ≠ q → a ≠ q_25 → a ≠ q_43 → a ≠ q_64 → a ≠ q_88 → a ≠ q_124 → a ≠ q_164 → M_186 a = T a := fun a z0 z1 z2 z3 z4 z5 z6 z7 z8 => by rw [eM_186]; exact (va_up_ne _ _ z8).trans (fr_185 a z0 z1 z2 z3 z4 z5 z6 z7 z8)
  refine zt_putF hx hb hts in_X1 tyX1 tyX1_ok nmX1 hown hK.1 hT hS h_188 rfl 6 (by decide) (hts _ q183) (fun _ h => h) rfl hnm rfl (v := .ref q_164) (tyX1_ok 6 (by decide)) rfl rfl (show 6 < 10 from by decide) dX1_init_66 (fun H locs hT hS => ?_)
  obtain ⟨M_197, eM_197⟩ : ∃ M0 : zT, M0 = va_up M_186 q (some (.inl (zo 0 [.ref q_1, .ref q_25, .ref q_43, .ref q_64, .ref q_88, .ref q_124, .ref q_164, .null, .null, .int 0]))) := ⟨_, rfl⟩
  have hT : zTH g A M_197 H := by rw [eM_197]; exact hT
  have h_198 : M_197 q = some (.inl (zo 0 [.ref q_1, .ref q_25, .ref q_43, .ref q_64, .ref q_88, .ref q_124, .ref q_164, .null, .null, .int 0])) := by rw [eM_197]; exact va_up_self _ _ _
  have h_199 : M_197 q_1 = some (.inl (zo 1 [.ref q_10])) := by rw [eM_197]; exact (va_up_ne _ _ (Ne.symm hn_4)).trans h_189
  have h_200 : M_197 q_10 = some (.inr (0, [])) := by rw [eM_197]; exact (va_up_ne _ _ (Ne.symm hn_15)).trans h_190
  have h_201 : M_197 q_25 = some (.inl (zI g 5 (fun _ => 0))) := by rw [eM_197]; exact (va_up_ne _ _ (Ne.symm hn_28)).trans h_191
  have h_202 : M_197 q_43 = some (.inl (zI g 5 (fun _ => 0))) := by rw [eM_197]; exact (va_up_ne _ _ (Ne.symm hn_46)).trans h_192
  have h_203 : M_197 q_64 = some (.inl (zI g 5 (fun _ => 0))) := by rw [eM_197]; exact (va_up_ne _ _ (Ne.symm hn_67)).trans h_193
  have h_204 : M_197 q_88 = some (.inr (0, [])) := by rw [eM_197]; exact (va_up_ne _ _ (Ne.symm hn_91)).trans h_194
  have h_205 : M_197 q_124 = some (.inr (0, [])) := by rw [eM_197]; exact (va_up_ne _ _ (Ne.symm hn_127)).trans h_195
  have h_206 : M_197 q_164 = some (.inr (0, [])) := by rw [eM_197]; exact (va_up_ne _ _ (Ne.symm hn_167)).trans h_187
  have fr_207 : ∀ a, a ≠ q_1 → a ≠ q_10 → a ≠ q → a ≠ q_25 → a ≠ q_43 → a ≠ q_64 → a ≠ q_88 → a ≠ q_124 → a ≠ q_164 → M_197 a = T a := fun a z0 z1 z2 z3 z4 z5 z6 z7 z8 => by rw [eM_197]; exact (va_up_ne _ _ z2).trans (fr_196 a z0 z1 z2 z3 z4 z5 z6 z7 z8)
  refine lv_aload_n hx hb dX1_init_69 rfl (lv_at hl 0 rfl) ?_
  refine lv_bipush (v := 8) hx hb dX1_init_70 (by decide) ?_
  refine zm_topi (y := nI 8) rfl ?_
  refine zt_newI hx hb (hts _ q208) hK.1 hT hS (n := 8) (by decide) (by show _ + 1 ≤ 16; omega) (by show _ + 8 ≤ 533; omega) dX1_init_72 (fun q_208 H hq_209 hT hS => ?_)
  obtain ⟨M_210, eM_210⟩ : ∃ M0 : zT, M0 = va_up M_197 q_208 (some (.inl (zI g 8 (fun _ => 0)))) := ⟨_, rfl⟩
  have hT : zTH g A M_210 H := by rw [eM_210]; exact hT
  have hn_211 : q ≠ q_208 := fun z => by rw [z, hq_209] at h_198; cases h_198
  have hn_212 : q_1 ≠ q_208 := fun z => by rw [z, hq_209] at h_199; cases h_199
  have hn_213 : q_10 ≠ q_208 := fun z => by rw [z, hq_209] at h_200; cases h_200
  have hn_214 : q_25 ≠ q_208 := fun z => by rw [z, hq_209] at h_201; cases h_201
  have hn_215 : q_43 ≠ q_208 := fun z => by rw [z, hq_209] at h_202; cases h_202
  have hn_216 : q_64 ≠ q_208 := fun z => by rw [z, hq_209] at h_203; cases h_203
  have hn_217 : q_88 ≠ q_208 := fun z => by rw [z, hq_209] at h_204; cases h_204
  have hn_218 : q_124 ≠ q_208 := fun z => by rw [z, hq_209] at h_205; cases h_205
  have hn_219 : q_164 ≠ q_208 := fun z => by rw [z, hq_209] at h_206; cases h_206
  have hf_220 : T q_208 = none := (fr_207 q_208 (Ne.symm hn_212) (Ne.symm hn_213) (Ne.symm hn_211) (Ne.symm hn_214) (Ne.symm hn_215) (Ne.symm hn_216) (Ne.symm hn_217) (Ne.symm hn_218) (Ne.symm hn_219)).symm.trans hq_209
  have h_221 : M_210 q_208 = some (.inl (zI g 8 (fun _ => 0))) := by rw [eM_210]; exact va_up_self _ _ _
  have h_222 : M_210 q = some (.inl (zo 0 [.ref q_1, .ref q_25, .ref q_43, .ref q_64, .ref q_88, .ref q_124, .ref q_164, .null, .null, .int 0])) := by rw [eM_210]; exact (va_up_ne _ _ hn_211).trans h_198
  have h_223 : M_210 q_1 = some (.inl (zo 1 [.ref q_10])) := by rw [eM_210]; exact (va_up_ne _ _ hn_212).trans h_199
  have h_224 : M_210 q_10 = some (.inr (0, [])) := by rw [eM_210]; exact (va_up_ne _ _ hn_213).trans h_200
  have h_225 : M_210 q_25 = some (.inl (zI g 5 (fun _ => 0))) := by rw [eM_210]; exact (va_up_ne _ _ hn_214).trans h_201
  have h_226 : M_210 q_43 = some (.inl (zI g 5 (fun _ => 0))) := by rw [eM_210]; exact (va_up_ne _ _ hn_215).trans h_202
  have h_227 : M_210 q_64 = some (.inl (zI g 5 (fun _ => 0))) := by rw [eM_210]; exact (va_up_ne _ _ hn_216).trans h_203
  have h_228 : M_210 q_88 = some (.inr (0, [])) := by rw [eM_210]; exact (va_up_ne _ _ hn_217).trans h_204
  have h_229 : M_210 q_124 = some (.inr (0, [])) := by rw [eM_210]; exact (va_up_ne _ _ hn_218).trans h_205
  have h_230 : M_210 q_164 = some (.inr (0, [])) := by rw [eM_210]; exact (va_up_ne _ _ hn_219).trans h_206
  have fr_231 : ∀ a, a ≠ q_1 → a ≠ q_10 → a ≠ q → a ≠ q_25 → a ≠ q_43 → a ≠ q_64 → a ≠ q_88 → a ≠ q_124 → a ≠ q_164 → a ≠ q_208 → M_210 a = T a := fun a z0 z1 z2 z3 z4 z5 z6 z7 z8 z9 => by rw [eM_210]; exact (va_up_ne _ _ z9).trans (fr_207 a z0 z1 z2 z3 z4 z5 z6 z7 z8)
  refine zt_putF hx hb hts in_X1 tyX1 tyX1_ok nmX1 hown hK.1 hT hS h_222 rfl 7 (by decide) (hts _ q184) (fun _ h => h) rfl hnm rfl (v := .ref q_208) (tyX1_ok 7 (by decide)) rfl rfl (show 7 < 10 from by decide) dX1_init_74 (fun H locs hT hS => ?_)
  obtain ⟨M_232, eM_232⟩ : ∃ M0 : zT, M0 = va_up M_210 q (some (.inl (zo 0 [.ref q_1, .ref q_25, .ref q_43, .ref q_64, .ref q_88, .ref q_124, .ref q_164, .ref q_208, .null, .int 0]))) := ⟨_, rfl⟩
  have hT : zTH g A M_232 H := by rw [eM_232]; exact hT
  have h_233 : M_232 q = some (.inl (zo 0 [.ref q_1, .ref q_25, .ref q_43, .ref q_64, .ref q_88, .ref q_124, .ref q_164, .ref q_208, .null, .int 0])) := by rw [eM_232]; exact va_up_self _ _ _
  have h_234 : M_232 q_1 = some (.inl (zo 1 [.ref q_10])) := by rw [eM_232]; exact (va_up_ne _ _ (Ne.symm hn_4)).trans h_223
  have h_235 : M_232 q_10 = some (.inr (0, [])) := by rw [eM_232]; exact (va_up_ne _ _ (Ne.symm hn_15)).trans h_224
  have h_236 : M_232 q_25 = some (.inl (zI g 5 (fun _ => 0))) := by rw [eM_232]; exact (va_up_ne _ _ (Ne.symm hn_28)).trans h_225
  have h_237 : M_232 q_43 = some (.inl (zI g 5 (fun _ => 0))) := by rw [eM_232]; exact (va_up_ne _ _ (Ne.symm hn_46)).trans h_226
  have h_238 : M_232 q_64 = some (.inl (zI g 5 (fun _ => 0))) := by rw [eM_232]; exact (va_up_ne _ _ (Ne.symm hn_67)).trans h_227
  have h_239 : M_232 q_88 = some (.inr (0, [])) := by rw [eM_232]; exact (va_up_ne _ _ (Ne.symm hn_91)).trans h_228
  have h_240 : M_232 q_124 = some (.inr (0, [])) := by rw [eM_232]; exact (va_up_ne _ _ (Ne.symm hn_127)).trans h_229
  have h_241 : M_232 q_164 = some (.inr (0, [])) := by rw [eM_232]; exact (va_up_ne _ _ (Ne.symm hn_167)).trans h_230
  have h_242 : M_232 q_208 = some (.inl (zI g 8 (fun _ => 0))) := by rw [eM_232]; exact (va_up_ne _ _ (Ne.symm hn_211)).trans h_221
  have fr_243 : ∀ a, a ≠ q_1 → a ≠ q_10 → a ≠ q → a ≠ q_25 → a ≠ q_43 → a ≠ q_64 → a ≠ q_88 → a ≠ q_124 → a ≠ q_164 → a ≠ q_208 → M_232 a = T a := fun a z0 z1 z2 z3 z4 z5 z6 z7 z8 z9 => by rw [eM_232]; exact (va_up_ne _ _ z2).trans (fr_231 a z0 z1 z2 z3 z4 z5 z6 z7 z8 z9)
  refine lv_aload_n hx hb dX1_init_77 rfl (lv_at hl 0 rfl) ?_
  refine lv_bipush (v := 8) hx hb dX1_init_78 (by decide) ?_
  refine zm_topi (y := nI 8) rfl ?_
  refine zt_newI hx hb (hts _ q208) hK.1 hT hS (n := 8) (by decide) (by show _ + 1 ≤ 16; omega) (by show _ + 8 ≤ 533; omega) dX1_init_80 (fun q_244 H hq_245 hT hS => ?_)
  obtain ⟨M_246, eM_246⟩ : ∃ M0 : zT, M0 = va_up M_232 q_244 (some (.inl (zI g 8 (fun _ => 0)))) := ⟨_, rfl⟩
  have hT : zTH g A M_246 H := by rw [eM_246]; exact hT
  have hn_247 : q ≠ q_244 := fun z => by rw [z, hq_245] at h_233; cases h_233
  have hn_248 : q_1 ≠ q_244 := fun z => by rw [z, hq_245] at h_234; cases h_234
  have hn_249 : q_10 ≠ q_244 := fun z => by rw [z, hq_245] at h_235; cases h_235
  have hn_250 : q_25 ≠ q_244 := fun z => by rw [z, hq_245] at h_236; cases h_236
  have hn_251 : q_43 ≠ q_244 := fun z => by rw [z, hq_245] at h_237; cases h_237
  have hn_252 : q_64 ≠ q_244 := fun z => by rw [z, hq_245] at h_238; cases h_238
  have hn_253 : q_88 ≠ q_244 := fun z => by rw [z, hq_245] at h_239; cases h_239
  have hn_254 : q_124 ≠ q_244 := fun z => by rw [z, hq_245] at h_240; cases h_240
  have hn_255 : q_164 ≠ q_244 := fun z => by rw [z, hq_245] at h_241; cases h_241
  have hn_256 : q_208 ≠ q_244 := fun z => by rw [z, hq_245] at h_242; cases h_242
  have hf_257 : T q_244 = none := (fr_243 q_244 (Ne.symm hn_248) (Ne.symm hn_249) (Ne.symm hn_247) (Ne.symm hn_250) (Ne.symm hn_251) (Ne.symm hn_252) (Ne.symm hn_253) (Ne.symm hn_254) (Ne.symm hn_255) (Ne.symm hn_256)).symm.trans hq_245
  have h_258 : M_246 q_244 = some (.inl (zI g 8 (fun _ => 0))) := by rw [eM_246]; exact va_up_self _ _ _
  have h_259 : M_246 q = some (.inl (zo 0 [.ref q_1, .ref q_25, .ref q_43, .ref q_64, .ref q_88, .ref q_124, .ref q_164, .ref q_208, .null, .int 0])) := by rw [eM_246]; exact (va_up_ne _ _ hn_247).trans h_233
  have h_260 : M_246 q_1 = some (.inl (zo 1 [.ref q_10])) := by rw [eM_246]; exact (va_up_ne _ _ hn_248).trans h_234
  have h_261 : M_246 q_10 = some (.inr (0, [])) := by rw [eM_246]; exact (va_up_ne _ _ hn_249).trans h_235
  have h_262 : M_246 q_25 = some (.inl (zI g 5 (fun _ => 0))) := by rw [eM_246]; exact (va_up_ne _ _ hn_250).trans h_236
  have h_263 : M_246 q_43 = some (.inl (zI g 5 (fun _ => 0))) := by rw [eM_246]; exact (va_up_ne _ _ hn_251).trans h_237
  have h_264 : M_246 q_64 = some (.inl (zI g 5 (fun _ => 0))) := by rw [eM_246]; exact (va_up_ne _ _ hn_252).trans h_238
  have h_265 : M_246 q_88 = some (.inr (0, [])) := by rw [eM_246]; exact (va_up_ne _ _ hn_253).trans h_239
  have h_266 : M_246 q_124 = some (.inr (0, [])) := by rw [eM_246]; exact (va_up_ne _ _ hn_254).trans h_240
  have h_267 : M_246 q_164 = some (.inr (0, [])) := by rw [eM_246]; exact (va_up_ne _ _ hn_255).trans h_241
  have h_268 : M_246 q_208 = some (.inl (zI g 8 (fun _ => 0))) := by rw [eM_246]; exact (va_up_ne _ _ hn_256).trans h_242
  have fr_269 : ∀ a, a ≠ q_1 → a ≠ q_10 → a ≠ q → a ≠ q_25 → a ≠ q_43 → a ≠ q_64 → a ≠ q_88 → a ≠ q_124 → a ≠ q_164 → a ≠ q_208 → a ≠ q_244 → M_246 a = T a := fun a z0 z1 z2 z3 z4 z5 z6 z7 z8 z9 z10 => by rw [eM_246]; exact (va_up_ne _ _ z10).trans (fr_243 a z0 z1 z2 z3 z4 z5 z6 z7 z8 z9)
  refine zt_putF hx hb hts in_X1 tyX1 tyX1_ok nmX1 hown hK.1 hT hS h_259 rfl 8 (by decide) (hts _ q185) (fun _ h => h) rfl hnm rfl (v := .ref q_244) (tyX1_ok 8 (by decide)) rfl rfl (show 8 < 10 from by decide) dX1_init_82 (fun H locs hT hS => ?_)
  obtain ⟨M_270, eM_270⟩ : ∃ M0 : zT, M0 = va_up M_246 q (some (.inl (zo 0 [.ref q_1, .ref q_25, .ref q_43, .ref q_64, .ref q_88, .ref q_124, .ref q_164, .ref q_208, .ref q_244, .int 0]))) := ⟨_, rfl⟩
  have hT : zTH g A M_270 H := by rw [eM_270]; exact hT
  have h_271 : M_270 q = some (.inl (zo 0 [.ref q_1, .ref q_25, .ref q_43, .ref q_64, .ref q_88, .ref q_124, .ref q_164, .ref q_208, .ref q_244, .int 0])) := by rw [eM_270]; exact va_up_self _ _ _
  have h_272 : M_270 q_1 = some (.inl (zo 1 [.ref q_10])) := by rw [eM_270]; exact (va_up_ne _ _ (Ne.symm hn_4)).trans h_260
  have h_273 : M_270 q_10 = some (.inr (0, [])) := by rw [eM_270]; exact (va_up_ne _ _ (Ne.symm hn_15)).trans h_261
  have h_274 : M_270 q_25 = some (.inl (zI g 5 (fun _ => 0))) := by rw [eM_270]; exact (va_up_ne _ _ (Ne.symm hn_28)).trans h_262
  have h_275 : M_270 q_43 = some (.inl (zI g 5 (fun _ => 0))) := by rw [eM_270]; exact (va_up_ne _ _ (Ne.symm hn_46)).trans h_263
  have h_276 : M_270 q_64 = some (.inl (zI g 5 (fun _ => 0))) := by rw [eM_270]; exact (va_up_ne _ _ (Ne.symm hn_67)).trans h_264
  have h_277 : M_270 q_88 = some (.inr (0, [])) := by rw [eM_270]; exact (va_up_ne _ _ (Ne.symm hn_91)).trans h_265
  have h_278 : M_270 q_124 = some (.inr (0, [])) := by rw [eM_270]; exact (va_up_ne _ _ (Ne.symm hn_127)).trans h_266
  have h_279 : M_270 q_164 = some (.inr (0, [])) := by rw [eM_270]; exact (va_up_ne _ _ (Ne.symm hn_167)).trans h_267
  have h_280 : M_270 q_208 = some (.inl (zI g 8 (fun _ => 0))) := by rw [eM_270]; exact (va_up_ne _ _ (Ne.symm hn_211)).trans h_268
  have h_281 : M_270 q_244 = some (.inl (zI g 8 (fun _ => 0))) := by rw [eM_270]; exact (va_up_ne _ _ (Ne.symm hn_247)).trans h_258
  have fr_282 : ∀ a, a ≠ q_1 → a ≠ q_10 → a ≠ q → a ≠ q_25 → a ≠ q_43 → a ≠ q_64 → a ≠ q_88 → a ≠ q_124 → a ≠ q_164 → a ≠ q_208 → a ≠ q_244 → M_270 a = T a := fun a z0 z1 z2 z3 z4 z5 z6 z7 z8 z9 z10 => by rw [eM_270]; exact (va_up_ne _ _ z2).trans (fr_269 a z0 z1 z2 z3 z4 z5 z6 z7 z8 z9 z10)
  refine lv_iconst (v := 0) hx hb dX1_init_85 (by decide) ?_
  refine lv_istore_n (lv' := [(1, .int 0), (0, .ref q)]) hx hb dX1_init_86 rfl hl (by decide) rfl (fun ls hl => ?_)
  refine lv_iload_n hx hb dX1_init_87 rfl (lv_at hl 0 rfl) ?_
  refine lv_iconst (v := 3) hx hb dX1_init_88 (by decide) ?_
  refine lv_icmp_ge (tgt := 113) hx hb dX1_init_89 (by decide) (fun c_283 => absurd c_283 (by decide)) (fun _ => ?_)
  refine lv_aload_n hx hb dX1_init_92 rfl (lv_at hl 1 rfl) ?_
  refine zt_get hx hb hts in_X1 hown hK.1 hT h_271 rfl 6 (by decide) (hts _ q183) (fun _ h => h) rfl dX1_init_93 ?_
  refine zt_new hx hb hts in_J2 tyJ2 tyJ2_ok hown (hts _ q113) (hts _ q81) (hts _ q43) hK.1 hT hS (ci := 9) rfl (fs := [.int 0, .null, .int 0]) (by decide) (by show _ + 1 ≤ 16; omega) (by show _ + 3 ≤ 533; omega) dX1_init_96 (fun q_284 H hq_285 hT hS => ?_)
  obtain ⟨M_286, eM_286⟩ : ∃ M0 : zT, M0 = va_up M_270 q_284 (some (.inl (zo 9 [.int 0, .null, .int 0]))) := ⟨_, rfl⟩
  have hT : zTH g A M_286 H := by rw [eM_286]; exact hT
  have hn_287 : q ≠ q_284 := fun z => by rw [z, hq_285] at h_271; cases h_271
  have hn_288 : q_1 ≠ q_284 := fun z => by rw [z, hq_285] at h_272; cases h_272
  have hn_289 : q_10 ≠ q_284 := fun z => by rw [z, hq_285] at h_273; cases h_273
  have hn_290 : q_25 ≠ q_284 := fun z => by rw [z, hq_285] at h_274; cases h_274
  have hn_291 : q_43 ≠ q_284 := fun z => by rw [z, hq_285] at h_275; cases h_275
  have hn_292 : q_64 ≠ q_284 := fun z => by rw [z, hq_285] at h_276; cases h_276
  have hn_293 : q_88 ≠ q_284 := fun z => by rw [z, hq_285] at h_277; cases h_277
  have hn_294 : q_124 ≠ q_284 := fun z => by rw [z, hq_285] at h_278; cases h_278
  have hn_295 : q_164 ≠ q_284 := fun z => by rw [z, hq_285] at h_279; cases h_279
  have hn_296 : q_208 ≠ q_284 := fun z => by rw [z, hq_285] at h_280; cases h_280
  have hn_297 : q_244 ≠ q_284 := fun z => by rw [z, hq_285] at h_281; cases h_281
  have hf_298 : T q_284 = none := (fr_282 q_284 (Ne.symm hn_288) (Ne.symm hn_289) (Ne.symm hn_287) (Ne.symm hn_290) (Ne.symm hn_291) (Ne.symm hn_292) (Ne.symm hn_293) (Ne.symm hn_294) (Ne.symm hn_295) (Ne.symm hn_296) (Ne.symm hn_297)).symm.trans hq_285
  have h_299 : M_286 q_284 = some (.inl (zo 9 [.int 0, .null, .int 0])) := by rw [eM_286]; exact va_up_self _ _ _
  have h_300 : M_286 q = some (.inl (zo 0 [.ref q_1, .ref q_25, .ref q_43, .ref q_64, .ref q_88, .ref q_124, .ref q_164, .ref q_208, .ref q_244, .int 0])) := by rw [eM_286]; exact (va_up_ne _ _ hn_287).trans h_271
  have h_301 : M_286 q_1 = some (.inl (zo 1 [.ref q_10])) := by rw [eM_286]; exact (va_up_ne _ _ hn_288).trans h_272
  have h_302 : M_286 q_10 = some (.inr (0, [])) := by rw [eM_286]; exact (va_up_ne _ _ hn_289).trans h_273
  have h_303 : M_286 q_25 = some (.inl (zI g 5 (fun _ => 0))) := by rw [eM_286]; exact (va_up_ne _ _ hn_290).trans h_274
  have h_304 : M_286 q_43 = some (.inl (zI g 5 (fun _ => 0))) := by rw [eM_286]; exact (va_up_ne _ _ hn_291).trans h_275
  have h_305 : M_286 q_64 = some (.inl (zI g 5 (fun _ => 0))) := by rw [eM_286]; exact (va_up_ne _ _ hn_292).trans h_276
  have h_306 : M_286 q_88 = some (.inr (0, [])) := by rw [eM_286]; exact (va_up_ne _ _ hn_293).trans h_277
  have h_307 : M_286 q_124 = some (.inr (0, [])) := by rw [eM_286]; exact (va_up_ne _ _ hn_294).trans h_278
  have h_308 : M_286 q_164 = some (.inr (0, [])) := by rw [eM_286]; exact (va_up_ne _ _ hn_295).trans h_279
  have h_309 : M_286 q_208 = some (.inl (zI g 8 (fun _ => 0))) := by rw [eM_286]; exact (va_up_ne _ _ hn_296).trans h_280
  have h_310 : M_286 q_244 = some (.inl (zI g 8 (fun _ => 0))) := by rw [eM_286]; exact (va_up_ne _ _ hn_297).trans h_281
  have fr_311 : ∀ a, a ≠ q_1 → a ≠ q_10 → a ≠ q → a ≠ q_25 → a ≠ q_43 → a ≠ q_64 → a ≠ q_88 → a ≠ q_124 → a ≠ q_164 → a ≠ q_208 → a ≠ q_244 → a ≠ q_284 → M_286 a = T a := fun a z0 z1 z2 z3 z4 z5 z6 z7 z8 z9 z10 z11 => by rw [eM_286]; exact (va_up_ne _ _ z11).trans (fr_282 a z0 z1 z2 z3 z4 z5 z6 z7 z8 z9 z10)
  refine lv_dup hx hb dX1_init_99 rfl ?_
  refine zc_v (zr_I (As := []) (rest := [.ref q_284, .ref q_164]) ⟨hx, hb, hml, hown, hts⟩ (ct_J2_init l g A _ q_284 h_299) zn_J2_init q84 q43 q114 q83 rfl (by decide) (by decide) hK (fun _ h => h) hS hT rfl hl.1 (Nat.le_of_ble_eq_true rfl) dX1_init_100 ⟨by show _ + 0 ≤ _; omega, by show _ + 0 ≤ _; omega⟩) hS (fun _ h => h) (fun _ H locs _ hT _ _ hS => ?_)
  obtain ⟨M_312, eM_312⟩ : ∃ M0 : zT, M0 = va_up M_286 q_284 (some (.inr (0, []))) := ⟨_, rfl⟩
  have hT : zTH g A M_312 H := by rw [eM_312]; exact hT
  have h_313 : M_312 q_284 = some (.inr (0, [])) := by rw [eM_312]; exact va_up_self _ _ _
  have h_314 : M_312 q = some (.inl (zo 0 [.ref q_1, .ref q_25, .ref q_43, .ref q_64, .ref q_88, .ref q_124, .ref q_164, .ref q_208, .ref q_244, .int 0])) := by rw [eM_312]; exact (va_up_ne _ _ hn_287).trans h_300
  have h_315 : M_312 q_1 = some (.inl (zo 1 [.ref q_10])) := by rw [eM_312]; exact (va_up_ne _ _ hn_288).trans h_301
  have h_316 : M_312 q_10 = some (.inr (0, [])) := by rw [eM_312]; exact (va_up_ne _ _ hn_289).trans h_302
  have h_317 : M_312 q_25 = some (.inl (zI g 5 (fun _ => 0))) := by rw [eM_312]; exact (va_up_ne _ _ hn_290).trans h_303
  have h_318 : M_312 q_43 = some (.inl (zI g 5 (fun _ => 0))) := by rw [eM_312]; exact (va_up_ne _ _ hn_291).trans h_304
  have h_319 : M_312 q_64 = some (.inl (zI g 5 (fun _ => 0))) := by rw [eM_312]; exact (va_up_ne _ _ hn_292).trans h_305
  have h_320 : M_312 q_88 = some (.inr (0, [])) := by rw [eM_312]; exact (va_up_ne _ _ hn_293).trans h_306
  have h_321 : M_312 q_124 = some (.inr (0, [])) := by rw [eM_312]; exact (va_up_ne _ _ hn_294).trans h_307
  have h_322 : M_312 q_164 = some (.inr (0, [])) := by rw [eM_312]; exact (va_up_ne _ _ hn_295).trans h_308
  have h_323 : M_312 q_208 = some (.inl (zI g 8 (fun _ => 0))) := by rw [eM_312]; exact (va_up_ne _ _ hn_296).trans h_309
  have h_324 : M_312 q_244 = some (.inl (zI g 8 (fun _ => 0))) := by rw [eM_312]; exact (va_up_ne _ _ hn_297).trans h_310
  have fr_325 : ∀ a, a ≠ q_1 → a ≠ q_10 → a ≠ q → a ≠ q_25 → a ≠ q_43 → a ≠ q_64 → a ≠ q_88 → a ≠ q_124 → a ≠ q_164 → a ≠ q_208 → a ≠ q_244 → a ≠ q_284 → M_312 a = T a := fun a z0 z1 z2 z3 z4 z5 z6 z7 z8 z9 z10 z11 => by rw [eM_312]; exact (va_up_ne _ _ z11).trans (fr_311 a z0 z1 z2 z3 z4 z5 z6 z7 z8 z9 z10 z11)
  refine zc_i (zr_V (As := [.ref q_284]) (rest := []) ⟨hx, hb, hml, hown, hts⟩ (ct_J2_add l g A _ q_164 (0) [] h_322 (some q_284) (by simp) (fun y hy => by cases hy) (fun v hv => by cases hv; exact Or.inr ⟨_, by assumption⟩)) zn_J2_add (lw_V q115 q116 q117 q43 q118) rfl (by decide) (by decide) hK (fun _ h => h) hS hT (zt_recvL hK.1 hT h_322) rfl hl.1 (Nat.le_of_ble_eq_true rfl) dX1_init_103 ⟨by show _ + 1 ≤ _; omega, by show _ + 160 ≤ _; omega⟩) hS (fun _ h => h) (fun r _ H locs hr1 hT _ _ hS => ?_)
  subst hr1
  dsimp only [List.append, List.cons_append, List.nil_append] at hT
  obtain ⟨M_326, eM_326⟩ : ∃ M0 : zT, M0 = va_up M_312 q_164 (some (.inr (0 + 1, [some q_284]))) := ⟨_, rfl⟩
  have hT : zTH g A M_326 H := by rw [eM_326]; exact hT
  have h_327 : M_326 q_164 = some (.inr (0 + 1, [some q_284])) := by rw [eM_326]; exact va_up_self _ _ _
  have h_328 : M_326 q = some (.inl (zo 0 [.ref q_1, .ref q_25, .ref q_43, .ref q_64, .ref q_88, .ref q_124, .ref q_164, .ref q_208, .ref q_244, .int 0])) := by rw [eM_326]; exact (va_up_ne _ _ hn_167).trans h_314
  have h_329 : M_326 q_1 = some (.inl (zo 1 [.ref q_10])) := by rw [eM_326]; exact (va_up_ne _ _ hn_168).trans h_315
  have h_330 : M_326 q_10 = some (.inr (0, [])) := by rw [eM_326]; exact (va_up_ne _ _ hn_169).trans h_316
  have h_331 : M_326 q_25 = some (.inl (zI g 5 (fun _ => 0))) := by rw [eM_326]; exact (va_up_ne _ _ hn_170).trans h_317
  have h_332 : M_326 q_43 = some (.inl (zI g 5 (fun _ => 0))) := by rw [eM_326]; exact (va_up_ne _ _ hn_171).trans h_318
  have h_333 : M_326 q_64 = some (.inl (zI g 5 (fun _ => 0))) := by rw [eM_326]; exact (va_up_ne _ _ hn_172).trans h_319
  have h_334 : M_326 q_88 = some (.inr (0, [])) := by rw [eM_326]; exact (va_up_ne _ _ hn_173).trans h_320
  have h_335 : M_326 q_124 = some (.inr (0, [])) := by rw [eM_326]; exact (va_up_ne _ _ hn_174).trans h_321
  have h_336 : M_326 q_208 = some (.inl (zI g 8 (fun _ => 0))) := by rw [eM_326]; exact (va_up_ne _ _ (Ne.symm hn_219)).trans h_323
  have h_337 : M_326 q_244 = some (.inl (zI g 8 (fun _ => 0))) := by rw [eM_326]; exact (va_up_ne _ _ (Ne.symm hn_255)).trans h_324
  have h_338 : M_326 q_284 = some (.inr (0, [])) := by rw [eM_326]; exact (va_up_ne _ _ (Ne.symm hn_295)).trans h_313
  have fr_339 : ∀ a, a ≠ q_1 → a ≠ q_10 → a ≠ q → a ≠ q_25 → a ≠ q_43 → a ≠ q_64 → a ≠ q_88 → a ≠ q_124 → a ≠ q_164 → a ≠ q_208 → a ≠ q_244 → a ≠ q_284 → M_326 a = T a := fun a z0 z1 z2 z3 z4 z5 z6 z7 z8 z9 z10 z11 => by rw [eM_326]; exact (va_up_ne _ _ z8).trans (fr_325 a z0 z1 z2 z3 z4 z5 z6 z7 z8 z9 z10 z11)
  refine lv_pop hx hb dX1_init_106 rfl ?_
  refine lv_iinc (v := 1) (lv' := [(1, .int 1), (0, .ref q)]) hx hb dX1_init_107 hl (k := 0) rfl (by decide) (by decide) rfl (fun ls hl => ?_)
  refine lv_goto (tgt := 87) hx hb dX1_init_110 (by decide) ?_
  refine lv_iload_n hx hb dX1_init_87 rfl (lv_at hl 0 rfl) ?_
  refine lv_iconst (v := 3) hx hb dX1_init_88 (by decide) ?_
  refine lv_icmp_ge (tgt := 113) hx hb dX1_init_89 (by decide) (fun c_340 => absurd c_340 (by decide)) (fun _ => ?_)
  refine lv_aload_n hx hb dX1_init_92 rfl (lv_at hl 1 rfl) ?_
  refine zt_get hx hb hts in_X1 hown hK.1 hT h_328 rfl 6 (by decide) (hts _ q183) (fun _ h => h) rfl dX1_init_93 ?_
  refine zt_new hx hb hts in_J2 tyJ2 tyJ2_ok hown (hts _ q113) (hts _ q81) (hts _ q43) hK.1 hT hS (ci := 9) rfl (fs := [.int 0, .null, .int 0]) (by decide) (by show _ + 1 ≤ 16; omega) (by show _ + 3 ≤ 533; omega) dX1_init_96 (fun q_341 H hq_342 hT hS => ?_)
  obtain ⟨M_343, eM_343⟩ : ∃ M0 : zT, M0 = va_up M_326 q_341 (some (.inl (zo 9 [.int 0, .null, .int 0]))) := ⟨_, rfl⟩
  have hT : zTH g A M_343 H := by rw [eM_343]; exact hT
  have hn_344 : q ≠ q_341 := fun z => by rw [z, hq_342] at h_328; cases h_328
  have hn_345 : q_1 ≠ q_341 := fun z => by rw [z, hq_342] at h_329; cases h_329
  have hn_346 : q_10 ≠ q_341 := fun z => by rw [z, hq_342] at h_330; cases h_330
  have hn_347 : q_25 ≠ q_341 := fun z => by rw [z, hq_342] at h_331; cases h_331
  have hn_348 : q_43 ≠ q_341 := fun z => by rw [z, hq_342] at h_332; cases h_332
  have hn_349 : q_64 ≠ q_341 := fun z => by rw [z, hq_342] at h_333; cases h_333
  have hn_350 : q_88 ≠ q_341 := fun z => by rw [z, hq_342] at h_334; cases h_334
  have hn_351 : q_124 ≠ q_341 := fun z => by rw [z, hq_342] at h_335; cases h_335
  have hn_352 : q_164 ≠ q_341 := fun z => by rw [z, hq_342] at h_327; cases h_327
  have hn_353 : q_208 ≠ q_341 := fun z => by rw [z, hq_342] at h_336; cases h_336
  have hn_354 : q_244 ≠ q_341 := fun z => by rw [z, hq_342] at h_337; cases h_337
  have hn_355 : q_284 ≠ q_341 := fun z => by rw [z, hq_342] at h_338; cases h_338
  have hf_356 : T q_341 = none := (fr_339 q_341 (Ne.symm hn_345) (Ne.symm hn_346) (Ne.symm hn_344) (Ne.symm hn_347) (Ne.symm hn_348) (Ne.symm hn_349) (Ne.symm hn_350) (Ne.symm hn_351) (Ne.symm hn_352) (Ne.symm hn_353) (Ne.symm hn_354) (Ne.symm hn_355)).symm.trans hq_342
  have h_357 : M_343 q_341 = some (.inl (zo 9 [.int 0, .null, .int 0])) := by rw [eM_343]; exact va_up_self _ _ _
  have h_358 : M_343 q = some (.inl (zo 0 [.ref q_1, .ref q_25, .ref q_43, .ref q_64, .ref q_88, .ref q_124, .ref q_164, .ref q_208, .ref q_244, .int 0])) := by rw [eM_343]; exact (va_up_ne _ _ hn_344).trans h_328
  have h_359 : M_343 q_1 = some (.inl (zo 1 [.ref q_10])) := by rw [eM_343]; exact (va_up_ne _ _ hn_345).trans h_329
  have h_360 : M_343 q_10 = some (.inr (0, [])) := by rw [eM_343]; exact (va_up_ne _ _ hn_346).trans h_330
  have h_361 : M_343 q_25 = some (.inl (zI g 5 (fun _ => 0))) := by rw [eM_343]; exact (va_up_ne _ _ hn_347).trans h_331
  have h_362 : M_343 q_43 = some (.inl (zI g 5 (fun _ => 0))) := by rw [eM_343]; exact (va_up_ne _ _ hn_348).trans h_332
  have h_363 : M_343 q_64 = some (.inl (zI g 5 (fun _ => 0))) := by rw [eM_343]; exact (va_up_ne _ _ hn_349).trans h_333
  have h_364 : M_343 q_88 = some (.inr (0, [])) := by rw [eM_343]; exact (va_up_ne _ _ hn_350).trans h_334
  have h_365 : M_343 q_124 = some (.inr (0, [])) := by rw [eM_343]; exact (va_up_ne _ _ hn_351).trans h_335
  have h_366 : M_343 q_164 = some (.inr (0 + 1, [some q_284])) := by rw [eM_343]; exact (va_up_ne _ _ hn_352).trans h_327
  have h_367 : M_343 q_208 = some (.inl (zI g 8 (fun _ => 0))) := by rw [eM_343]; exact (va_up_ne _ _ hn_353).trans h_336
  have h_368 : M_343 q_244 = some (.inl (zI g 8 (fun _ => 0))) := by rw [eM_343]; exact (va_up_ne _ _ hn_354).trans h_337
  have h_369 : M_343 q_284 = some (.inr (0, [])) := by rw [eM_343]; exact (va_up_ne _ _ hn_355).trans h_338
  have fr_370 : ∀ a, a ≠ q_1 → a ≠ q_10 → a ≠ q → a ≠ q_25 → a ≠ q_43 → a ≠ q_64 → a ≠ q_88 → a ≠ q_124 → a ≠ q_164 → a ≠ q_208 → a ≠ q_244 → a ≠ q_284 → a ≠ q_341 → M_343 a = T a := fun a z0 z1 z2 z3 z4 z5 z6 z7 z8 z9 z10 z11 z12 => by rw [eM_343]; exact (va_up_ne _ _ z12).trans (fr_339 a z0 z1 z2 z3 z4 z5 z6 z7 z8 z9 z10 z11)
  refine lv_dup hx hb dX1_init_99 rfl ?_
  refine zc_v (zr_I (As := []) (rest := [.ref q_341, .ref q_164]) ⟨hx, hb, hml, hown, hts⟩ (ct_J2_init l g A _ q_341 h_357) zn_J2_init q84 q43 q114 q83 rfl (by decide) (by decide) hK (fun _ h => h) hS hT rfl hl.1 (Nat.le_of_ble_eq_true rfl) dX1_init_100 ⟨by show _ + 0 ≤ _; omega, by show _ + 0 ≤ _; omega⟩) hS (fun _ h => h) (fun _ H locs _ hT _ _ hS => ?_)
  obtain ⟨M_371, eM_371⟩ : ∃ M0 : zT, M0 = va_up M_343 q_341 (some (.inr (0, []))) := ⟨_, rfl⟩
  have hT : zTH g A M_371 H := by rw [eM_371]; exact hT
  have h_372 : M_371 q_341 = some (.inr (0, [])) := by rw [eM_371]; exact va_up_self _ _ _
  have h_373 : M_371 q = some (.inl (zo 0 [.ref q_1, .ref q_25, .ref q_43, .ref q_64, .ref q_88, .ref q_124, .ref q_164, .ref q_208, .ref q_244, .int 0])) := by rw [eM_371]; exact (va_up_ne _ _ hn_344).trans h_358
  have h_374 : M_371 q_1 = some (.inl (zo 1 [.ref q_10])) := by rw [eM_371]; exact (va_up_ne _ _ hn_345).trans h_359
  have h_375 : M_371 q_10 = some (.inr (0, [])) := by rw [eM_371]; exact (va_up_ne _ _ hn_346).trans h_360
  have h_376 : M_371 q_25 = some (.inl (zI g 5 (fun _ => 0))) := by rw [eM_371]; exact (va_up_ne _ _ hn_347).trans h_361
  have h_377 : M_371 q_43 = some (.inl (zI g 5 (fun _ => 0))) := by rw [eM_371]; exact (va_up_ne _ _ hn_348).trans h_362
  have h_378 : M_371 q_64 = some (.inl (zI g 5 (fun _ => 0))) := by rw [eM_371]; exact (va_up_ne _ _ hn_349).trans h_363
  have h_379 : M_371 q_88 = some (.inr (0, [])) := by rw [eM_371]; exact (va_up_ne _ _ hn_350).trans h_364
  have h_380 : M_371 q_124 = some (.inr (0, [])) := by rw [eM_371]; exact (va_up_ne _ _ hn_351).trans h_365
  have h_381 : M_371 q_164 = some (.inr (0 + 1, [some q_284])) := by rw [eM_371]; exact (va_up_ne _ _ hn_352).trans h_366
  have h_382 : M_371 q_208 = some (.inl (zI g 8 (fun _ => 0))) := by rw [eM_371]; exact (va_up_ne _ _ hn_353).trans h_367
  have h_383 : M_371 q_244 = some (.inl (zI g 8 (fun _ => 0))) := by rw [eM_371]; exact (va_up_ne _ _ hn_354).trans h_368
  have h_384 : M_371 q_284 = some (.inr (0, [])) := by rw [eM_371]; exact (va_up_ne _ _ hn_355).trans h_369
  have fr_385 : ∀ a, a ≠ q_1 → a ≠ q_10 → a ≠ q → a ≠ q_25 → a ≠ q_43 → a ≠ q_64 → a ≠ q_88 → a ≠ q_124 → a ≠ q_164 → a ≠ q_208 → a ≠ q_244 → a ≠ q_284 → a ≠ q_341 → M_371 a = T a := fun a z0 z1 z2 z3 z4 z5 z6 z7 z8 z9 z10 z11 z12 => by rw [eM_371]; exact (va_up_ne _ _ z12).trans (fr_370 a z0 z1 z2 z3 z4 z5 z6 z7 z8 z9 z10 z11 z12)
  refine zc_i (zr_V (As := [.ref q_341]) (rest := []) ⟨hx, hb, hml, hown, hts⟩ (ct_J2_add l g A _ q_164 (0 + 1) [some q_284] h_381 (some q_341) (by simp) (fun y hy v hv => by simp at hy; rcases hy with rfl <;> (cases hv; exact Or.inr ⟨_, by assumption⟩)) (fun v hv => by cases hv; exact Or.inr ⟨_, by assumption⟩)) zn_J2_add (lw_V q115 q116 q117 q43 q118) rfl (by decide) (by decide) hK (fun _ h => h) hS hT (zt_recvL hK.1 hT h_381) rfl hl.1 (Nat.le_of_ble_eq_true rfl) dX1_init_103 ⟨by show _ + 1 ≤ _; omega, by show _ + 160 ≤ _; omega⟩) hS (fun _ h => h) (fun r _ H locs hr1 hT _ _ hS => ?_)
  subst hr1
  dsimp only [List.append, List.cons_append, List.nil_append] at hT
  obtain ⟨M_386, eM_386⟩ : ∃ M0 : zT, M0 = va_up M_371 q_164 (some (.inr (0 + 1 + 1, [some q_284, some q_341]))) := ⟨_, rfl⟩
  have hT : zTH g A M_386 H := by rw [eM_386]; exact hT
  have h_387 : M_386 q_164 = some (.inr (0 + 1 + 1, [some q_284, some q_341])) := by rw [eM_386]; exact va_up_self _ _ _
  have h_388 : M_386 q = some (.inl (zo 0 [.ref q_1, .ref q_25, .ref q_43, .ref q_64, .ref q_88, .ref q_124, .ref q_164, .ref q_208, .ref q_244, .int 0])) := by rw [eM_386]; exact (va_up_ne _ _ hn_167).trans h_373
  have h_389 : M_386 q_1 = some (.inl (zo 1 [.ref q_10])) := by rw [eM_386]; exact (va_up_ne _ _ hn_168).trans h_374
  have h_390 : M_386 q_10 = some (.inr (0, [])) := by rw [eM_386]; exact (va_up_ne _ _ hn_169).trans h_375
  have h_391 : M_386 q_25 = some (.inl (zI g 5 (fun _ => 0))) := by rw [eM_386]; exact (va_up_ne _ _ hn_170).trans h_376
  have h_392 : M_386 q_43 = some (.inl (zI g 5 (fun _ => 0))) := by rw [eM_386]; exact (va_up_ne _ _ hn_171).trans h_377
  have h_393 : M_386 q_64 = some (.inl (zI g 5 (fun _ => 0))) := by rw [eM_386]; exact (va_up_ne _ _ hn_172).trans h_378
  have h_394 : M_386 q_88 = some (.inr (0, [])) := by rw [eM_386]; exact (va_up_ne _ _ hn_173).trans h_379
  have h_395 : M_386 q_124 = some (.inr (0, [])) := by rw [eM_386]; exact (va_up_ne _ _ hn_174).trans h_380
  have h_396 : M_386 q_208 = some (.inl (zI g 8 (fun _ => 0))) := by rw [eM_386]; exact (va_up_ne _ _ (Ne.symm hn_219)).trans h_382
  have h_397 : M_386 q_244 = some (.inl (zI g 8 (fun _ => 0))) := by rw [eM_386]; exact (va_up_ne _ _ (Ne.symm hn_255)).trans h_383
  have h_398 : M_386 q_284 = some (.inr (0, [])) := by rw [eM_386]; exact (va_up_ne _ _ (Ne.symm hn_295)).trans h_384
  have h_399 : M_386 q_341 = some (.inr (0, [])) := by rw [eM_386]; exact (va_up_ne _ _ (Ne.symm hn_352)).trans h_372
  have fr_400 : ∀ a, a ≠ q_1 → a ≠ q_10 → a ≠ q → a ≠ q_25 → a ≠ q_43 → a ≠ q_64 → a ≠ q_88 → a ≠ q_124 → a ≠ q_164 → a ≠ q_208 → a ≠ q_244 → a ≠ q_284 → a ≠ q_341 → M_386 a = T a := fun a z0 z1 z2 z3 z4 z5 z6 z7 z8 z9 z10 z11 z12 => by rw [eM_386]; exact (va_up_ne _ _ z8).trans (fr_385 a z0 z1 z2 z3 z4 z5 z6 z7 z8 z9 z10 z11 z12)
  refine lv_pop hx hb dX1_init_106 rfl ?_
  refine lv_iinc (v := 2) (lv' := [(1, .int 2), (0, .ref q)]) hx hb dX1_init_107 hl (k := 0) rfl (by decide) (by decide) rfl (fun ls hl => ?_)
  refine lv_goto (tgt := 87) hx hb dX1_init_110 (by decide) ?_
  refine lv_iload_n hx hb dX1_init_87 rfl (lv_at hl 0 rfl) ?_
  refine lv_iconst (v := 3) hx hb dX1_init_88 (by decide) ?_
  refine lv_icmp_ge (tgt := 113) hx hb dX1_init_89 (by decide) (fun c_401 => absurd c_401 (by decide)) (fun _ => ?_)
  refine lv_aload_n hx hb dX1_init_92 rfl (lv_at hl 1 rfl) ?_
  refine zt_get hx hb hts in_X1 hown hK.1 hT h_388 rfl 6 (by decide) (hts _ q183) (fun _ h => h) rfl dX1_init_93 ?_
  refine zt_new hx hb hts in_J2 tyJ2 tyJ2_ok hown (hts _ q113) (hts _ q81) (hts _ q43) hK.1 hT hS (ci := 9) rfl (fs := [.int 0, .null, .int 0]) (by decide) (by show _ + 1 ≤ 16; omega) (by show _ + 3 ≤ 533; omega) dX1_init_96 (fun q_402 H hq_403 hT hS => ?_)
  obtain ⟨M_404, eM_404⟩ : ∃ M0 : zT, M0 = va_up M_386 q_402 (some (.inl (zo 9 [.int 0, .null, .int 0]))) := ⟨_, rfl⟩
  have hT : zTH g A M_404 H := by rw [eM_404]; exact hT
  have hn_405 : q ≠ q_402 := fun z => by rw [z, hq_403] at h_388; cases h_388
  have hn_406 : q_1 ≠ q_402 := fun z => by rw [z, hq_403] at h_389; cases h_389
  have hn_407 : q_10 ≠ q_402 := fun z => by rw [z, hq_403] at h_390; cases h_390
  have hn_408 : q_25 ≠ q_402 := fun z => by rw [z, hq_403] at h_391; cases h_391
  have hn_409 : q_43 ≠ q_402 := fun z => by rw [z, hq_403] at h_392; cases h_392
  have hn_410 : q_64 ≠ q_402 := fun z => by rw [z, hq_403] at h_393; cases h_393
  have hn_411 : q_88 ≠ q_402 := fun z => by rw [z, hq_403] at h_394; cases h_394
  have hn_412 : q_124 ≠ q_402 := fun z => by rw [z, hq_403] at h_395; cases h_395
  have hn_413 : q_164 ≠ q_402 := fun z => by rw [z, hq_403] at h_387; cases h_387
  have hn_414 : q_208 ≠ q_402 := fun z => by rw [z, hq_403] at h_396; cases h_396
  have hn_415 : q_244 ≠ q_402 := fun z => by rw [z, hq_403] at h_397; cases h_397
  have hn_416 : q_284 ≠ q_402 := fun z => by rw [z, hq_403] at h_398; cases h_398
  have hn_417 : q_341 ≠ q_402 := fun z => by rw [z, hq_403] at h_399; cases h_399
  have hf_418 : T q_402 = none := (fr_400 q_402 (Ne.symm hn_406) (Ne.symm hn_407) (Ne.symm hn_405) (Ne.symm hn_408) (Ne.symm hn_409) (Ne.symm hn_410) (Ne.symm hn_411) (Ne.symm hn_412) (Ne.symm hn_413) (Ne.symm hn_414) (Ne.symm hn_415) (Ne.symm hn_416) (Ne.symm hn_417)).symm.trans hq_403
  have h_419 : M_404 q_402 = some (.inl (zo 9 [.int 0, .null, .int 0])) := by rw [eM_404]; exact va_up_self _ _ _
  have h_420 : M_404 q = some (.inl (zo 0 [.ref q_1, .ref q_25, .ref q_43, .ref q_64, .ref q_88, .ref q_124, .ref q_164, .ref q_208, .ref q_244, .int 0])) := by rw [eM_404]; exact (va_up_ne _ _ hn_405).trans h_388
  have h_421 : M_404 q_1 = some (.inl (zo 1 [.ref q_10])) := by rw [eM_404]; exact (va_up_ne _ _ hn_406).trans h_389
  have h_422 : M_404 q_10 = some (.inr (0, [])) := by rw [eM_404]; exact (va_up_ne _ _ hn_407).trans h_390
  have h_423 : M_404 q_25 = some (.inl (zI g 5 (fun _ => 0))) := by rw [eM_404]; exact (va_up_ne _ _ hn_408).trans h_391
  have h_424 : M_404 q_43 = some (.inl (zI g 5 (fun _ => 0))) := by rw [eM_404]; exact (va_up_ne _ _ hn_409).trans h_392
  have h_425 : M_404 q_64 = some (.inl (zI g 5 (fun _ => 0))) := by rw [eM_404]; exact (va_up_ne _ _ hn_410).trans h_393
  have h_426 : M_404 q_88 = some (.inr (0, [])) := by rw [eM_404]; exact (va_up_ne _ _ hn_411).trans h_394
  have h_427 : M_404 q_124 = some (.inr (0, [])) := by rw [eM_404]; exact (va_up_ne _ _ hn_412).trans h_395
  have h_428 : M_404 q_164 = some (.inr (0 + 1 + 1, [some q_284, some q_341])) := by rw [eM_404]; exact (va_up_ne _ _ hn_413).trans h_387
  have h_429 : M_404 q_208 = some (.inl (zI g 8 (fun _ => 0))) := by rw [eM_404]; exact (va_up_ne _ _ hn_414).trans h_396
  have h_430 : M_404 q_244 = some (.inl (zI g 8 (fun _ => 0))) := by rw [eM_404]; exact (va_up_ne _ _ hn_415).trans h_397
  have h_431 : M_404 q_284 = some (.inr (0, [])) := by rw [eM_404]; exact (va_up_ne _ _ hn_416).trans h_398
  have h_432 : M_404 q_341 = some (.inr (0, [])) := by rw [eM_404]; exact (va_up_ne _ _ hn_417).trans h_399
  have fr_433 : ∀ a, a ≠ q_1 → a ≠ q_10 → a ≠ q → a ≠ q_25 → a ≠ q_43 → a ≠ q_64 → a ≠ q_88 → a ≠ q_124 → a ≠ q_164 → a ≠ q_208 → a ≠ q_244 → a ≠ q_284 → a ≠ q_341 → a ≠ q_402 → M_404 a = T a := fun a z0 z1 z2 z3 z4 z5 z6 z7 z8 z9 z10 z11 z12 z13 => by rw [eM_404]; exact (va_up_ne _ _ z13).trans (fr_400 a z0 z1 z2 z3 z4 z5 z6 z7 z8 z9 z10 z11 z12)
  refine lv_dup hx hb dX1_init_99 rfl ?_
  refine zc_v (zr_I (As := []) (rest := [.ref q_402, .ref q_164]) ⟨hx, hb, hml, hown, hts⟩ (ct_J2_init l g A _ q_402 h_419) zn_J2_init q84 q43 q114 q83 rfl (by decide) (by decide) hK (fun _ h => h) hS hT rfl hl.1 (Nat.le_of_ble_eq_true rfl) dX1_init_100 ⟨by show _ + 0 ≤ _; omega, by show _ + 0 ≤ _; omega⟩) hS (fun _ h => h) (fun _ H locs _ hT _ _ hS => ?_)
  obtain ⟨M_434, eM_434⟩ : ∃ M0 : zT, M0 = va_up M_404 q_402 (some (.inr (0, []))) := ⟨_, rfl⟩
  have hT : zTH g A M_434 H := by rw [eM_434]; exact hT
  have h_435 : M_434 q_402 = some (.inr (0, [])) := by rw [eM_434]; exact va_up_self _ _ _
  have h_436 : M_434 q = some (.inl (zo 0 [.ref q_1, .ref q_25, .ref q_43, .ref q_64, .ref q_88, .ref q_124, .ref q_164, .ref q_208, .ref q_244, .int 0])) := by rw [eM_434]; exact (va_up_ne _ _ hn_405).trans h_420
  have h_437 : M_434 q_1 = some (.inl (zo 1 [.ref q_10])) := by rw [eM_434]; exact (va_up_ne _ _ hn_406).trans h_421
  have h_438 : M_434 q_10 = some (.inr (0, [])) := by rw [eM_434]; exact (va_up_ne _ _ hn_407).trans h_422
  have h_439 : M_434 q_25 = some (.inl (zI g 5 (fun _ => 0))) := by rw [eM_434]; exact (va_up_ne _ _ hn_408).trans h_423
  have h_440 : M_434 q_43 = some (.inl (zI g 5 (fun _ => 0))) := by rw [eM_434]; exact (va_up_ne _ _ hn_409).trans h_424
  have h_441 : M_434 q_64 = some (.inl (zI g 5 (fun _ => 0))) := by rw [eM_434]; exact (va_up_ne _ _ hn_410).trans h_425
  have h_442 : M_434 q_88 = some (.inr (0, [])) := by rw [eM_434]; exact (va_up_ne _ _ hn_411).trans h_426
  have h_443 : M_434 q_124 = some (.inr (0, [])) := by rw [eM_434]; exact (va_up_ne _ _ hn_412).trans h_427
  have h_444 : M_434 q_164 = some (.inr (0 + 1 + 1, [some q_284, some q_341])) := by rw [eM_434]; exact (va_up_ne _ _ hn_413).trans h_428
  have h_445 : M_434 q_208 = some (.inl (zI g 8 (fun _ => 0))) := by rw [eM_434]; exact (va_up_ne _ _ hn_414).trans h_429
  have h_446 : M_434 q_244 = some (.inl (zI g 8 (fun _ => 0))) := by rw [eM_434]; exact (va_up_ne _ _ hn_415).trans h_430
  have h_447 : M_434 q_284 = some (.inr (0, [])) := by rw [eM_434]; exact (va_up_ne _ _ hn_416).trans h_431
  have h_448 : M_434 q_341 = some (.inr (0, [])) := by rw [eM_434]; exact (va_up_ne _ _ hn_417).trans h_432
  have fr_449 : ∀ a, a ≠ q_1 → a ≠ q_10 → a ≠ q → a ≠ q_25 → a ≠ q_43 → a ≠ q_64 → a ≠ q_88 → a ≠ q_124 → a ≠ q_164 → a ≠ q_208 → a ≠ q_244 → a ≠ q_284 → a ≠ q_341 → a ≠ q_402 → M_434 a = T a := fun a z0 z1 z2 z3 z4 z5 z6 z7 z8 z9 z10 z11 z12 z13 => by rw [eM_434]; exact (va_up_ne _ _ z13).trans (fr_433 a z0 z1 z2 z3 z4 z5 z6 z7 z8 z9 z10 z11 z12 z13)
  refine zc_i (zr_V (As := [.ref q_402]) (rest := []) ⟨hx, hb, hml, hown, hts⟩ (ct_J2_add l g A _ q_164 (0 + 1 + 1) [some q_284, some q_341] h_444 (some q_402) (by simp) (fun y hy v hv => by simp at hy; rcases hy with rfl | rfl <;> (cases hv; exact Or.inr ⟨_, by assumption⟩)) (fun v hv => by cases hv; exact Or.inr ⟨_, by assumption⟩)) zn_J2_add (lw_V q115 q116 q117 q43 q118) rfl (by decide) (by decide) hK (fun _ h => h) hS hT (zt_recvL hK.1 hT h_444) rfl hl.1 (Nat.le_of_ble_eq_true rfl) dX1_init_103 ⟨by show _ + 1 ≤ _; omega, by show _ + 160 ≤ _; omega⟩) hS (fun _ h => h) (fun r _ H locs hr1 hT _ _ hS => ?_)
  subst hr1
  dsimp only [List.append, List.cons_append, List.nil_append] at hT
  obtain ⟨M_450, eM_450⟩ : ∃ M0 : zT, M0 = va_up M_434 q_164 (some (.inr (0 + 1 + 1 + 1, [some q_284, some q_341, some q_402]))) := ⟨_, rfl⟩
  have hT : zTH g A M_450 H := by rw [eM_450]; exact hT
  have h_451 : M_450 q_164 = some (.inr (0 + 1 + 1 + 1, [some q_284, some q_341, some q_402])) := by rw [eM_450]; exact va_up_self _ _ _
  have h_452 : M_450 q = some (.inl (zo 0 [.ref q_1, .ref q_25, .ref q_43, .ref q_64, .ref q_88, .ref q_124, .ref q_164, .ref q_208, .ref q_244, .int 0])) := by rw [eM_450]; exact (va_up_ne _ _ hn_167).trans h_436
  have h_453 : M_450 q_1 = some (.inl (zo 1 [.ref q_10])) := by rw [eM_450]; exact (va_up_ne _ _ hn_168).trans h_437
  have h_454 : M_450 q_10 = some (.inr (0, [])) := by rw [eM_450]; exact (va_up_ne _ _ hn_169).trans h_438
  have h_455 : M_450 q_25 = some (.inl (zI g 5 (fun _ => 0))) := by rw [eM_450]; exact (va_up_ne _ _ hn_170).trans h_439
  have h_456 : M_450 q_43 = some (.inl (zI g 5 (fun _ => 0))) := by rw [eM_450]; exact (va_up_ne _ _ hn_171).trans h_440
  have h_457 : M_450 q_64 = some (.inl (zI g 5 (fun _ => 0))) := by rw [eM_450]; exact (va_up_ne _ _ hn_172).trans h_441
  have h_458 : M_450 q_88 = some (.inr (0, [])) := by rw [eM_450]; exact (va_up_ne _ _ hn_173).trans h_442
  have h_459 : M_450 q_124 = some (.inr (0, [])) := by rw [eM_450]; exact (va_up_ne _ _ hn_174).trans h_443
  have h_460 : M_450 q_208 = some (.inl (zI g 8 (fun _ => 0))) := by rw [eM_450]; exact (va_up_ne _ _ (Ne.symm hn_219)).trans h_445
  have h_461 : M_450 q_244 = some (.inl (zI g 8 (fun _ => 0))) := by rw [eM_450]; exact (va_up_ne _ _ (Ne.symm hn_255)).trans h_446
  have h_462 : M_450 q_284 = some (.inr (0, [])) := by rw [eM_450]; exact (va_up_ne _ _ (Ne.symm hn_295)).trans h_447
  have h_463 : M_450 q_341 = some (.inr (0, [])) := by rw [eM_450]; exact (va_up_ne _ _ (Ne.symm hn_352)).trans h_448
  have h_464 : M_450 q_402 = some (.inr (0, [])) := by rw [eM_450]; exact (va_up_ne _ _ (Ne.symm hn_413)).trans h_435
  have fr_465 : ∀ a, a ≠ q_1 → a ≠ q_10 → a ≠ q → a ≠ q_25 → a ≠ q_43 → a ≠ q_64 → a ≠ q_88 → a ≠ q_124 → a ≠ q_164 → a ≠ q_208 → a ≠ q_244 → a ≠ q_284 → a ≠ q_341 → a ≠ q_402 → M_450 a = T a := fun a z0 z1 z2 z3 z4 z5 z6 z7 z8 z9 z10 z11 z12 z13 => by rw [eM_450]; exact (va_up_ne _ _ z8).trans (fr_449 a z0 z1 z2 z3 z4 z5 z6 z7 z8 z9 z10 z11 z12 z13)
  refine lv_pop hx hb dX1_init_106 rfl ?_
  refine lv_iinc (v := 3) (lv' := [(1, .int 3), (0, .ref q)]) hx hb dX1_init_107 hl (k := 0) rfl (by decide) (by decide) rfl (fun ls hl => ?_)
  refine lv_goto (tgt := 87) hx hb dX1_init_110 (by decide) ?_
  refine lv_iload_n hx hb dX1_init_87 rfl (lv_at hl 0 rfl) ?_
  refine lv_iconst (v := 3) hx hb dX1_init_88 (by decide) ?_
  refine lv_icmp_ge (tgt := 113) hx hb dX1_init_89 (by decide) (fun _ => ?_) (fun c_466 => absurd (by decide) c_466)
  have hnd : ([q, q_1, q_10, q_25, q_43, q_64, q_88, q_124, q_164, q_208, q_244, q_284, q_341, q_402] : List Nat).Nodup := by simp [hn_4, hn_15, hn_28, hn_46, hn_67, hn_91, hn_127, hn_167, hn_211, hn_247, hn_287, hn_344, hn_405, hn_16, hn_29, hn_47, hn_68, hn_92, hn_128, hn_168, hn_212, hn_248, hn_288, hn_345, hn_406, hn_30, hn_48, hn_69, hn_93, hn_129, hn_169, hn_213, hn_249, hn_289, hn_346, hn_407, hn_49, hn_70, hn_94, hn_130, hn_170, hn_214, hn_250, hn_290, hn_347, hn_408, hn_71, hn_95, hn_131, hn_171, hn_215, hn_251, hn_291, hn_348, hn_409, hn_96, hn_132, hn_172, hn_216, hn_252, hn_292, hn_349, hn_410, hn_133, hn_173, hn_217, hn_253, hn_293, hn_350, hn_411, hn_174, hn_218, hn_254, hn_294, hn_351, hn_412, hn_219, hn_255, hn_295, hn_352, hn_413, hn_256, hn_296, hn_353, hn_414, hn_297, hn_354, hn_415, hn_355, hn_416, hn_417]
  have hi14 := zdup14 hnd rfl
  obtain ⟨AA, eA⟩ : ∃ AA : Nat → Nat, AA = (fun c => ([q, q_1, q_10, q_25, q_43, q_64, q_88, q_124, q_164, q_208, q_244, q_284, q_341, q_402] : List Nat).getD c 0) := ⟨_, rfl⟩
  have a_0 : AA 0 = q := by rw [eA]; rfl
  have a_1 : AA 1 = q_1 := by rw [eA]; rfl
  have a_2 : AA 2 = q_10 := by rw [eA]; rfl
  have a_3 : AA 3 = q_25 := by rw [eA]; rfl
  have a_4 : AA 4 = q_43 := by rw [eA]; rfl
  have a_5 : AA 5 = q_64 := by rw [eA]; rfl
  have a_6 : AA 6 = q_88 := by rw [eA]; rfl
  have a_7 : AA 7 = q_124 := by rw [eA]; rfl
  have a_8 : AA 8 = q_164 := by rw [eA]; rfl
  have a_9 : AA 9 = q_208 := by rw [eA]; rfl
  have a_10 : AA 10 = q_244 := by rw [eA]; rfl
  have a_11 : AA 11 = q_284 := by rw [eA]; rfl
  have a_12 : AA 12 = q_341 := by rw [eA]; rfl
  have a_13 : AA 13 = q_402 := by rw [eA]; rfl
  have hi : ∀ c d, c < 14 → d < 14 → AA c = AA d → c = d := by rw [eA]; exact hi14
  clear hnd hi14 eA
  refine ze_v hx hb hr hlocks hS dX1_init_113 (by show _ ≤ 16; omega) (by show _ ≤ 533; omega) (M_450, AA) ⟨a_0, ?_⟩ hT
  show zSy (zS0 AA) g (fun _ _ => 0) M_450
  refine zSy.start hi ?_ ?_ ?_ ?_ ?_ ?_ ?_ ?_ ?_ ?_ ?_ ?_ ?_ ?_
  · rw [a_0, a_1, a_3, a_4, a_5, a_6, a_7, a_8, a_9, a_10]; exact h_452
  · rw [a_1, a_2]; exact h_453
  · rw [a_2]; exact h_454
  · rw [a_3]; exact h_455
  · rw [a_4]; exact h_456
  · rw [a_5]; exact h_457
  · rw [a_6]; exact h_458
  · rw [a_7]; exact h_459
  · rw [a_8, a_11, a_12, a_13]; exact h_451
  · rw [a_9]; exact h_460
  · rw [a_10]; exact h_461
  · rw [a_11]; exact h_462
  · rw [a_12]; exact h_463
  · rw [a_13]; exact h_464
