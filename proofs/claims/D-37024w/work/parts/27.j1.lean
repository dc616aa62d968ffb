theorem zn_J17_equals : zN yJ17_equals 1 := by decide +kernel
set_option maxHeartbeats 4000000 in
theorem ct_J17_equals (l : Launch) (g : zG) (A : Nat → Prop) (B : Heap → Prop) (v : Nat) (x : Option Nat) : Met l yJ17_equals (ws_ yJ17_equals cJ17_equals 2 (some .boolean)) (zR 1 0 0) (zP [.ref v, va_rf x] g A B) (va_Qi (fun rz_ (_ : Unit) => rz_ = zb (decide (some v = x))) (fun (_ : Unit) t => B t.heap) A) 0 0 A := by
  refine zb_metF (by decide +kernel) (by cases x <;> exact Nat.le_of_ble_eq_true rfl) ?_
  intro p e s m args below meth c ls hx hb hr hml hown hts hlocks hnm hK hB ha_ hl
  have hown : s.vm.findClass RJ17 = some m.cls := hown
  have hS : va_S A s.heap s.heap [] := va_S.rf
  have hl : lv_has ls 2 [(0, .ref v), (1, va_rf x)] := hl
  rcases x with _ | y
  · have hl : lv_has ls 2 [(0, .ref v), (1, .null)] := hl
    refine lv_aload_n hx hb dJ17_equals_0 rfl (lv_at hl 0 rfl) ?_
    refine lv_aload_nN hx hb dJ17_equals_1 rfl (lv_at hl 1 rfl) ?_
    refine lv_acmp_ne (tgt := 9) (rx := some v) (ry := none) hx hb dJ17_equals_2 (by decide) (fun c_1 => ?_) (fun c_1 => ?_)
    · refine lv_iconst (v := 0) hx hb dJ17_equals_9 (by decide) ?_
      exact ze_z hx hb hr hlocks hS dJ17_equals_10 (Nat.le_refl _) (Nat.le_refl _) (Or.inl rfl) () (by simp [zb, c_1]) hB
    · refine lv_iconst (v := 1) hx hb dJ17_equals_5 (by decide) ?_
      refine lv_goto (tgt := 10) hx hb dJ17_equals_6 (by decide) ?_
      exact ze_z hx hb hr hlocks hS dJ17_equals_10 (Nat.le_refl _) (Nat.le_refl _) (Or.inr rfl) () (by simp [zb, c_1]) hB
  · have hl : lv_has ls 2 [(0, .ref v), (1, .ref y)] := hl
    refine lv_aload_n hx hb dJ17_equals_0 rfl (lv_at hl 0 rfl) ?_
    refine lv_aload_n hx hb dJ17_equals_1 rfl (lv_at hl 1 rfl) ?_
    refine lv_acmp_ne (tgt := 9) (rx := some v) (ry := some y) hx hb dJ17_equals_2 (by decide) (fun c_2 => ?_) (fun c_2 => ?_)
    · refine lv_iconst (v := 0) hx hb dJ17_equals_9 (by decide) ?_
      exact ze_z hx hb hr hlocks hS dJ17_equals_10 (Nat.le_refl _) (Nat.le_refl _) (Or.inl rfl) () (by simp [zb, c_2]) hB
    · refine lv_iconst (v := 1) hx hb dJ17_equals_5 (by decide) ?_
      refine lv_goto (tgt := 10) hx hb dJ17_equals_6 (by decide) ?_
      exact ze_z hx hb hr hlocks hS dJ17_equals_10 (Nat.le_refl _) (Nat.le_refl _) (Or.inr rfl) () (by simp [zb, c_2]) hB
theorem zn_J0_init : zN yJ0_init 0 := by decide +kernel
set_option maxHeartbeats 4000000 in
theorem ct_J0_init (l : Launch) (g : zG) (A : Nat → Prop) (B : Heap → Prop) (a : Nat) : Met l yJ0_init (ws_ yJ0_init cJ0_init 1 none) (zR 2 0 0) (zP [.ref a] g A B) (va_Qv (fun (_ : Unit) => True) (fun (_ : Unit) t => B t.heap) A) 0 0 A := by
  refine zb_met (by decide) (Nat.le_of_ble_eq_true rfl) ?_
  intro p e s m args below meth c ls hx hb hr hml hown hts hlocks hnm hK hB ha_ hl
  have hown : s.vm.findClass RJ0 = some m.cls := hown
  have hS : va_S A s.heap s.heap [] := va_S.rf
  have hl : lv_has ls 1 [(0, .ref a)] := hl
  refine lv_aload_n hx hb dJ0_init_0 rfl (lv_at hl 0 rfl) ?_
  refine W.objInit hx hb hown (hts _ q91) (hts _ q72) (hts _ q73) rfl (by rw [hml]; exact hl.1) rfl dJ0_init_1 (Nat.le_of_ble_eq_true rfl) (Nat.le_of_ble_eq_true rfl) ?_
  refine W.eq (g2 := F0 m 4 ls []) rfl ?_
  exact ze_v hx hb hr hlocks hS dJ0_init_4 (Nat.le_of_ble_eq_true rfl) (Nat.le_of_ble_eq_true rfl) () trivial (hB)
theorem zn_J1_init : zN yJ1_init 0 := by decide +kernel
set_option maxHeartbeats 4000000 in
theorem ct_J1_init (l : Launch) (g : zG) (A : Nat → Prop) (T : zT) (a : Nat) (x y z : Value) (ha : T a = some (.inl (zo 9 [x, y, z]))) : Met l yJ1_init (ws_ yJ1_init cJ1_init 1 none) (zR 3 0 0) (zP [.ref a] g A (zTH g A T)) (va_Qv (fun (_ : Unit) => True) (fun (_ : Unit) t => zTH g A (va_up T a (some (.inl (zo 9 [.int 0, y, z])))) t.heap) A) 0 0 A := by
  refine zb_met (by decide) (Nat.le_of_ble_eq_true rfl) ?_
  intro p e s m args below meth c ls hx hb hr hml hown hts hlocks hnm hK hT ha_ hl
  have hown : s.vm.findClass RJ1 = some m.cls := hown
  have hS : va_S A s.heap s.heap [] := va_S.rf
  have hl : lv_has ls 1 [(0, .ref a)] := hl
  refine lv_aload_n hx hb dJ1_init_0 rfl (lv_at hl 0 rfl) ?_
  refine zc_v (zr_I (As := []) (rest := []) ⟨hx, hb, hml, hown, hts⟩ (ct_J0_init l g A (zTH g A T) a) zn_J0_init q90 q41 q88 q89 rfl (by decide) (by decide) hK (fun _ h => h) hS hT rfl hl.1 (Nat.le_of_ble_eq_true rfl) dJ1_init_1 ⟨Nat.le_refl _, Nat.le_refl _⟩) hS (fun _ h => h) (fun _ H locs _ hT _ _ hS => ?_)
  refine lv_aload_n hx hb dJ1_init_4 rfl (lv_at hl 0 rfl) ?_
  refine lv_iconst (v := 0) hx hb dJ1_init_5 (by decide) ?_
  refine zt_put hx hb hts in_J2 tyJ2 tyJ2_ok nmJ2 hown hK.1 hT hS ha (C := RJ2) (T0 := TJ2) (N := 3) (ci := 9) rfl 0 (by decide) (hts _ q98) (fun _ h => h) rfl (v := .int 0) (tyJ2_ok 0 (by decide)) rfl rfl (Nat.zero_lt_succ 2) dJ1_init_6 (fun H locs hT hS => ?_)
  exact ze_v hx hb hr hlocks hS dJ1_init_9 (Nat.le_of_ble_eq_true rfl) (Nat.le_of_ble_eq_true rfl) () trivial (hT)
theorem zn_J2_init : zN yJ2_init 0 := by decide +kernel
set_option maxHeartbeats 4000000 in
theorem ct_J2_init (l : Launch) (g : zG) (A : Nat → Prop) (T : zT) (a : Nat) (ha : T a = some (.inl (zo 9 [.int 0, .null, .int 0]))) : Met l yJ2_init (ws_ yJ2_init cJ2_init 1 none) (zR 4 0 0) (zP [.ref a] g A (zTH g A T)) (va_Qv (fun (_ : Unit) => True) (fun (_ : Unit) t => zTH g A (va_up T a (some (.inr (0, [])))) t.heap) A) 0 0 A := by
  refine zb_met (by decide) (Nat.le_of_ble_eq_true rfl) ?_
  intro p e s m args below meth c ls hx hb hr hml hown hts hlocks hnm hK hT ha_ hl
  have hown : s.vm.findClass RJ2 = some m.cls := hown
  have hS : va_S A s.heap s.heap [] := va_S.rf
  have hl : lv_has ls 1 [(0, .ref a)] := hl
  refine lv_aload_n hx hb dJ2_init_0 rfl (lv_at hl 0 rfl) ?_
  refine zc_v (zr_I (As := []) (rest := []) ⟨hx, hb, hml, hown, hts⟩ (ct_J1_init l g A T a (.int 0) .null (.int 0) ha) zn_J1_init q87 q42 q85 q86 rfl (by decide) (by decide) hK (fun _ h => h) hS hT rfl hl.1 (Nat.le_of_ble_eq_true rfl) dJ2_init_1 ⟨Nat.le_refl _, Nat.le_refl _⟩) hS (fun _ h => h) (fun _ H locs _ hT _ _ hS => ?_)
  refine lv_aload_n hx hb dJ2_init_4 rfl (lv_at hl 0 rfl) ?_
  refine va_gets hx hb (hK.2.2.1.1) hS hown (hts _ q92) (fun _ h => h) dJ2_init_5 ?_
  obtain ⟨M, bk, hM, hTM⟩ := hT
  have ha1 := hTM.1 _ _ (va_up_self T a _)
  refine zm_put hx hb hts in_J2 tyJ2 tyJ2_ok nmJ2 hown hK.1 hM hS ha1 (C := RJ2) (T := TJ2) (N := 3) (ci := 9) rfl 1 (by decide) (hts _ q94) (fun _ h => h) rfl (v := .ref (zd0 g)) (tyJ2_ok 1 (by decide)) rfl rfl (by decide) dJ2_init_8 (fun H locs hM1 hS => ?_)
  have hT2 := hTM.mk hM.2.2.2.1 (va_up_self T a _) (va_up_self M a (some (zo 9 [.int 0, .ref (zd0 g), .int 0]))) (fun q z => va_up_ne _ _ z)
  rw [zup_up] at hT2
  exact ze_v hx hb hr hlocks hS dJ2_init_11 (Nat.le_of_ble_eq_true rfl) (Nat.le_of_ble_eq_true rfl) () trivial (⟨_, _, hM1, hT2⟩)
theorem zn_J15_checkIndex : zN yJ15_checkIndex 3 := by decide +kernel
set_option maxHeartbeats 4000000 in
theorem ct_J15_checkIndex (l : Launch) (g : zG) (A : Nat → Prop) (B : Heap → Prop) (i n : Nat) (hi : i < n) (hn : n < 1000) : Met l yJ15_checkIndex (ws_ yJ15_checkIndex cJ15_checkIndex 3 (some .int)) (zR 1 0 0) (zP [.int (nI i), .int (nI n), .null] g A B) (va_Qi (fun rz_ (_ : Unit) => rz_ = nI i) (fun (_ : Unit) t => B t.heap) A) 0 0 A := by
  refine zb_met (by decide) (Nat.le_of_ble_eq_true rfl) ?_
  intro p e s m args below meth c ls hx hb hr hml hown hts hlocks hnm hK hB ha_ hl
  have hown : s.vm.findClass RJ15 = some m.cls := hown
  have hS : va_S A s.heap s.heap [] := va_S.rf
  have hl : lv_has ls 3 [(0, .int (nI i)), (1, .int (nI n)), (2, .null)] := hl
  refine lv_iload_n hx hb dJ15_checkIndex_0 rfl (lv_at hl 0 rfl) ?_
  refine lv_if_lt (tgt := 9) hx hb dJ15_checkIndex_1 (by decide) (fun c_1 => ?_) (fun c_1 => ?_)
  · exact absurd c_1 (nI_pos (by omega))
  · refine lv_iload_n hx hb dJ15_checkIndex_4 rfl (lv_at hl 0 rfl) ?_
    refine lv_iload_n hx hb dJ15_checkIndex_5 rfl (lv_at hl 1 rfl) ?_
    refine zl_lt (tgt := 16) (a := i) (b := n) hx hb (by first | decide | omega) (by first | decide | omega) dJ15_checkIndex_6 (by decide) (fun c_2 => ?_) (fun c_2 => ?_)
    · refine lv_iload_n hx hb dJ15_checkIndex_16 rfl (lv_at hl 0 rfl) ?_
      exact ze_i hx hb hr hlocks hS dJ15_checkIndex_17 (Nat.le_of_ble_eq_true rfl) (Nat.le_of_ble_eq_true rfl) () (rfl) hB
    · exact absurd hi (by omega)
theorem zn_J14_checkIndex : zN yJ14_checkIndex 2 := by decide +kernel
set_option maxHeartbeats 4000000 in
theorem ct_J14_checkIndex (l : Launch) (g : zG) (A : Nat → Prop) (B : Heap → Prop) (i n : Nat) (hi : i < n) (hn : n < 1000) : Met l yJ14_checkIndex (ws_ yJ14_checkIndex cJ14_checkIndex 2 (some .int)) (zR 2 0 0) (zP [.int (nI i), .int (nI n)] g A B) (va_Qi (fun rz_ (_ : Unit) => rz_ = nI i) (fun (_ : Unit) t => B t.heap) A) 0 0 A := by
  refine zb_met (by decide) (Nat.le_of_ble_eq_true rfl) ?_
  intro p e s m args below meth c ls hx hb hr hml hown hts hlocks hnm hK hB ha_ hl
  have hown : s.vm.findClass RJ14 = some m.cls := hown
  have hS : va_S A s.heap s.heap [] := va_S.rf
  have hl : lv_has ls 2 [(0, .int (nI i)), (1, .int (nI n))] := hl
  refine lv_iload_n hx hb dJ14_checkIndex_0 rfl (lv_at hl 0 rfl) ?_
  refine lv_iload_n hx hb dJ14_checkIndex_1 rfl (lv_at hl 1 rfl) ?_
  refine lv_null hx hb dJ14_checkIndex_2 ?_
  refine zc_i (zr_S (As := [.int (nI i), .int (nI n), .null]) (rest := []) ⟨hx, hb, hml, hown, hts⟩ (ct_J15_checkIndex l g A B i n hi hn) zn_J15_checkIndex (lw_S q241 q242 q60 q243) (by decide) (by decide) hK (fun _ h => h) hS hB rfl hl.1 (Nat.le_of_ble_eq_true rfl) dJ14_checkIndex_3 ⟨Nat.le_refl _, Nat.le_refl _⟩) hS (fun _ h => h) (fun r _ H locs hr1 hB _ _ hS => ?_)
  subst hr1
  exact ze_i hx hb hr hlocks hS dJ14_checkIndex_6 (Nat.le_of_ble_eq_true rfl) (Nat.le_of_ble_eq_true rfl) () (rfl) hB
theorem zn_J2_size : zN yJ2_size 0 := by decide +kernel
set_option maxHeartbeats 4000000 in
theorem ct_J2_size (l : Launch) (g : zG) (A : Nat → Prop) (T : zT) (a : Nat) (mu : Int32) (xs : List (Option Nat)) (ha : T a = some (.inr (mu, xs))) : Met l yJ2_size (ws_ yJ2_size cJ2_size 1 (some .int)) (zR 1 0 0) (zP [.ref a] g A (zTH g A T)) (va_Qi (fun rz_ (_ : Unit) => rz_ = nI xs.length) (fun (_ : Unit) t => zTH g A T t.heap) A) 0 0 A := by
  refine zb_met (by decide) (Nat.le_of_ble_eq_true rfl) ?_
  intro p e s m args below meth c ls hx hb hr hml hown hts hlocks hnm hK hT ha_ hl
  have hown : s.vm.findClass RJ2 = some m.cls := hown
  have hS : va_S A s.heap s.heap [] := va_S.rf
  have hl : lv_has ls 1 [(0, .ref a)] := hl
  obtain ⟨M, bk, hM, hTM⟩ := hT
  obtain ⟨hL, cap, f, hL2, hlen, hcap, hcap0, hf⟩ := hTM.2.1 _ _ _ ha
  refine lv_aload_n hx hb dJ2_size_0 rfl (lv_at hl 0 rfl) ?_
  refine zm_get hx hb hts in_J2 hown hK.1 hM hL rfl 2 (by decide) (hts _ q97) (fun _ h => h) rfl dJ2_size_1 ?_
  exact ze_i hx hb hr hlocks hS dJ2_size_4 (Nat.le_of_ble_eq_true rfl) (Nat.le_of_ble_eq_true rfl) () (rfl) ⟨M, bk, hM, hTM⟩
theorem zn_J2_isEmpty : zN yJ2_isEmpty 0 := by decide +kernel
set_option maxHeartbeats 4000000 in
theorem ct_J2_isEmpty (l : Launch) (g : zG) (A : Nat → Prop) (T : zT) (a : Nat) (mu : Int32) (xs : List (Option Nat)) (ha : T a = some (.inr (mu, xs))) : Met l yJ2_isEmpty (ws_ yJ2_isEmpty cJ2_isEmpty 1 (some .boolean)) (zR 1 0 0) (zP [.ref a] g A (zTH g A T)) (va_Qi (fun rz_ (_ : Unit) => rz_ = zb (decide (xs.length = 0))) (fun (_ : Unit) t => zTH g A T t.heap) A) 0 0 A := by
  refine zb_met (by decide) (Nat.le_of_ble_eq_true rfl) ?_
  intro p e s m args below meth c ls hx hb hr hml hown hts hlocks hnm hK hT ha_ hl
  have hown : s.vm.findClass RJ2 = some m.cls := hown
  have hS : va_S A s.heap s.heap [] := va_S.rf
  have hl : lv_has ls 1 [(0, .ref a)] := hl
  obtain ⟨M, bk, hM, hTM⟩ := hT
  obtain ⟨hL, cap, f, hL2, hlen, hcap, hcap0, hf⟩ := hTM.2.1 _ _ _ ha
  refine lv_aload_n hx hb dJ2_isEmpty_0 rfl (lv_at hl 0 rfl) ?_
  refine zm_get hx hb hts in_J2 hown hK.1 hM hL rfl 2 (by decide) (hts _ q97) (fun _ h => h) rfl dJ2_isEmpty_1 ?_
  refine zl_ifne0 (tgt := 11) (a := xs.length) hx hb (by first | decide | omega) dJ2_isEmpty_4 (by decide) (fun c_1 => ?_) (fun c_1 => ?_)
  · refine lv_iconst (v := 0) hx hb dJ2_isEmpty_11 (by decide) ?_
    exact ze_z hx hb hr hlocks hS dJ2_isEmpty_12 (Nat.le_of_ble_eq_true rfl) (Nat.le_of_ble_eq_true rfl) (Or.inl rfl) () (by exact (zb_f (decide_eq_false (by omega))).symm) ⟨M, bk, hM, hTM⟩
  · refine lv_iconst (v := 1) hx hb dJ2_isEmpty_7 (by decide) ?_
    refine lv_goto (tgt := 12) hx hb dJ2_isEmpty_8 (by decide) ?_
    exact ze_z hx hb hr hlocks hS dJ2_isEmpty_12 (Nat.le_of_ble_eq_true rfl) (Nat.le_of_ble_eq_true rfl) (Or.inr rfl) () (by exact (zb_t (decide_eq_true (by omega))).symm) ⟨M, bk, hM, hTM⟩
theorem zn_J2_elementData : zN yJ2_elementData 1 := by decide +kernel
set_option maxHeartbeats 4000000 in
theorem ct_J2_elementData (l : Launch) (g : zG) (A : Nat → Prop) (M : Nat → Option va_E) (a b : Nat) (mu x : Value) (cap : Nat) (f : Nat → Option Nat) (i : Nat) (ha : M a = some (zo 9 [mu, .ref b, x])) (hb_ : M b = some (zQ g cap f)) (hi : i < cap) (hcap : cap ≤ 160) : Met l yJ2_elementData (ws_ yJ2_elementData cJ2_elementData 2 (some (.object "java/lang/Object"))) (zR 1 0 0) (zP [.ref a, .int (nI i)] g A (zMH g A M)) (va_Qq (fun rz_ (_ : Unit) => rz_ = f i) (fun (_ : Unit) t => zMH g A M t.heap) A) 0 0 A := by
  refine zb_met (by decide) (Nat.le_of_ble_eq_true rfl) ?_
  intro p e s m args below meth c ls hx hb hr hml hown hts hlocks hnm hK hM ha_ hl
  have hown : s.vm.findClass RJ2 = some m.cls := hown
  have hS : va_S A s.heap s.heap [] := va_S.rf
  have hl : lv_has ls 2 [(0, .ref a), (1, .int (nI i))] := hl
  refine lv_aload_n hx hb dJ2_elementData_0 rfl (lv_at hl 0 rfl) ?_
  refine zm_get hx hb hts in_J2 hown hK.1 hM ha rfl 1 (by decide) (hts _ q94) (fun _ h => h) rfl dJ2_elementData_1 ?_
  refine lv_iload_n hx hb dJ2_elementData_4 rfl (lv_at hl 1 rfl) ?_
  refine zm_ald (k := i) hx hb hK.1 hM hb_ (by omega) (by omega) dJ2_elementData_5 ?_
  exact ze_q hx hb hr (Or.inl ⟨_, rfl⟩) hlocks hS dJ2_elementData_6 (Nat.le_of_ble_eq_true rfl) (Nat.le_of_ble_eq_true rfl) () (rfl) hM
theorem zn_J2_get : zN yJ2_get 1 := by decide +kernel
set_option maxHeartbeats 4000000 in
theorem ct_J2_get (l : Launch) (g : zG) (A : Nat → Prop) (T : zT) (a : Nat) (mu : Int32) (xs : List (Option Nat)) (ha : T a = some (.inr (mu, xs))) (i : Nat) (hi : i < xs.length) : Met l yJ2_get (ws_ yJ2_get cJ2_get 2 (some (.object "java/lang/Object"))) (zR 3 0 0) (zP [.ref a, .int (nI i)] g A (zTH g A T)) (va_Qq (fun rz_ (_ : Unit) => rz_ = xs[i]) (fun (_ : Unit) t => zTH g A T t.heap) A) 0 0 A := by
  refine zb_met (by decide) (Nat.le_of_ble_eq_true rfl) ?_
  intro p e s m args below meth c ls hx hb hr hml hown hts hlocks hnm hK hT ha_ hl
  have hown : s.vm.findClass RJ2 = some m.cls := hown
  have hS : va_S A s.heap s.heap [] := va_S.rf
  have hl : lv_has ls 2 [(0, .ref a), (1, .int (nI i))] := hl
  obtain ⟨M, bk, hM, hTM⟩ := hT
  obtain ⟨hL, cap, f, hL2, hlen, hcap, hcap0, hf⟩ := hTM.2.1 _ _ _ ha
  refine lv_iload_n hx hb dJ2_get_0 rfl (lv_at hl 1 rfl) ?_
  refine lv_aload_n hx hb dJ2_get_1 rfl (lv_at hl 0 rfl) ?_
  refine zm_get hx hb hts in_J2 hown hK.1 hM hL rfl 2 (by decide) (hts _ q97) (fun _ h => h) rfl dJ2_get_2 ?_
  refine zc_i (zr_S (As := [.int (nI i), .int (nI xs.length)]) (rest := []) ⟨hx, hb, hml, hown, hts⟩ (ct_J14_checkIndex l g A (zMH g A M) i xs.length hi (by omega)) zn_J14_checkIndex (lw_S q238 q239 q59 q240) (by decide) (by decide) hK (fun _ h => h) hS hM rfl hl.1 (Nat.le_of_ble_eq_true rfl) dJ2_get_5 ⟨Nat.le_refl _, Nat.le_refl _⟩) hS (fun _ h => h) (fun r _ H locs hr1 hM _ _ hS => ?_)
  subst hr1
  refine lv_pop hx hb dJ2_get_8 rfl ?_
  refine lv_aload_n hx hb dJ2_get_9 rfl (lv_at hl 0 rfl) ?_
  refine lv_iload_n hx hb dJ2_get_10 rfl (lv_at hl 1 rfl) ?_
  refine zc_q (zr_V (As := [.int (nI i)]) (rest := []) ⟨hx, hb, hml, hown, hts⟩ (ct_J2_elementData l g A M a (bk a) (.int mu) (.int (nI xs.length)) cap f i hL hL2 (by omega) hcap) zn_J2_elementData (lw_V q244 q245 q246 q43 q247) rfl (by decide) (by decide) hK (fun _ h => h) hS hM (zm_recv hK.1 hM hL rfl) rfl hl.1 (Nat.le_of_ble_eq_true rfl) dJ2_get_11 ⟨Nat.le_refl _, Nat.le_refl _⟩) hS (fun _ h => h) (fun r _ H locs hr1 hM _ _ hS => ?_)
  subst hr1
  exact ze_q hx hb hr (Or.inl ⟨_, rfl⟩) hlocks hS dJ2_get_14 (Nat.le_of_ble_eq_true rfl) (Nat.le_of_ble_eq_true rfl) () (hf i _ (List.getElem?_eq_getElem hi)) ⟨M, bk, hM, hTM⟩
