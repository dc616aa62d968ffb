theorem zn_X5_become : zN yX5_become 1 := by decide +kernel
set_option maxHeartbeats 4000000 in
theorem ct_X5_become (l : Launch) (g : zG) (A : Nat → Prop) (T : zT) (q b : Nat) (mu : Int32) (xs : List (Option Nat)) (x0 o : Option Nat) (hq_ : T q = some (.inl (zo 4 [.ref b, va_rf x0]))) (hb_ : T b = some (.inr (mu, xs))) (hln : xs.length ≤ 100) (hel : ∀ y ∈ xs, zEl T y) (hxo : zEl T o) : Met l yX5_become (ws_ yX5_become cX5_become 2 none) (zR 8 1 160) (zP [.ref q, va_rf o] g A (zTH g A T)) (va_Qv (fun (_ : Unit) => True) (fun (_ : Unit) t => zTH g A (va_up (va_up T q (some (.inl (zo 4 [.ref b, va_rf o])))) b (some (.inr (mu + 1, xs ++ [o])))) t.heap) A) 1 160 A := by
  refine zb_met (by decide) (by cases o <;> exact Nat.le_of_ble_eq_true rfl) ?_
  intro p e s m args below meth c ls hx hb hr hml hown hts hlocks hnm hK hT ha_ hl
  have hown : s.vm.findClass RX5 = some m.cls := hown
  have hS : va_S A s.heap s.heap [] := va_S.rf
  have hl : lv_has ls 2 [(0, .ref q), (1, va_rf o)] := by cases o <;> exact hl
  refine lv_aload_n hx hb dX5_become_0 rfl (lv_at hl 0 rfl) ?_
  refine lv_aload_nO hx hb dX5_become_1 rfl (lv_at hl 1 rfl) ?_
  refine zt_put hx hb hts in_X5 tyX5 tyX5_ok nmX5 hown hK.1 hT hS hq_ rfl 1 (by decide) (hts _ q372) (fun _ h => h) rfl (v := va_rf o) (tyX5_ok 1 (by decide)) (by cases o <;> rfl) (by cases o <;> rfl) (show 1 < 2 from by decide) dX5_become_2 (fun H locs hT hS => ?_)
  obtain ⟨M_1, eM_1⟩ : ∃ M0, M0 = va_up T q (some (.inl (zo 4 [.ref b, va_rf o]))) := ⟨_, rfl⟩
  have hT : zTH g A M_1 H := by rw [eM_1]; exact hT
  have h_2 : M_1 q = some (.inl (zo 4 [.ref b, va_rf o])) := by rw [eM_1]; exact va_up_self _ _ _
  have h_3 : M_1 b = some (.inr (mu, xs)) := by rw [eM_1]; exact (va_up_ne _ _ (fun z => by have z1 := hb_; rw [z, hq_] at z1; cases z1)).trans hb_
  refine lv_aload_n hx hb dX5_become_5 rfl (lv_at hl 0 rfl) ?_
  refine zt_get hx hb hts in_X5 hown hK.1 hT h_2 rfl 0 (by decide) (hts _ q370) (fun _ h => h) rfl dX5_become_6 ?_
  refine lv_aload_nO hx hb dX5_become_9 rfl (lv_at hl 1 rfl) ?_
  refine zc_i (zr_V (As := [va_rf o]) (rest := []) ⟨hx, hb, hml, hown, hts⟩ (ct_J2_add l g A _ b mu xs h_3 o hln (fun y hy => by rw [eM_1]; exact (hel y hy).up hq_ (by decide) _) (by rw [eM_1]; exact hxo.up hq_ (by decide) _)) zn_J2_add (lw_V q569 q116 q117 q43 q118) rfl (by decide) (by decide) hK (fun _ h => h) hS hT (zt_recvL hK.1 hT h_3) rfl hl.1 (Nat.le_of_ble_eq_true rfl) dX5_become_10 ⟨by show _ + 1 ≤ _; omega, by show _ + 160 ≤ _; omega⟩) hS (fun _ h => h) (fun r _ H locs hr1 hT _ _ hS => ?_)
  subst hr1
  refine lv_pop hx hb dX5_become_13 rfl ?_
  rw [eM_1] at hT
  exact ze_v hx hb hr hlocks hS dX5_become_14 (by show _ ≤ 1; omega) (by show _ ≤ 160; omega) () trivial hT
theorem zn_X2_add : zN yX2_add 1 := by decide +kernel
set_option maxHeartbeats 4000000 in
theorem ct_X2_add (l : Launch) (g : zG) (A : Nat → Prop) (T : zT) (q b v : Nat) (mu : Int32) (xs : List (Option Nat)) (hq_ : T q = some (.inl (zo 1 [.ref b]))) (hb_ : T b = some (.inr (mu, xs))) (hln : xs.length ≤ 100) (hel : ∀ y ∈ xs, zEl T y) (hxo : zEl T (some v)) : Met l yX2_add (ws_ yX2_add cX2_add 2 (some (.object "WheelWorks$Numbered"))) (zR 8 1 160) (zP [.ref q, .ref v] g A (zTH g A T)) (va_Qq (fun rz_ (_ : Unit) => rz_ = some v) (fun (_ : Unit) t => zTH g A (va_up T b (some (.inr (mu + 1, xs ++ [some v])))) t.heap) A) 1 160 A := by
  refine zb_met (by decide) (Nat.le_of_ble_eq_true rfl) ?_
  intro p e s m args below meth c ls hx hb hr hml hown hts hlocks hnm hK hT ha_ hl
  have hown : s.vm.findClass RX2 = some m.cls := hown
  have hS : va_S A s.heap s.heap [] := va_S.rf
  have hl : lv_has ls 2 [(0, .ref q), (1, .ref v)] := hl
  refine lv_aload_n hx hb dX2_add_0 rfl (lv_at hl 0 rfl) ?_
  refine zt_get hx hb hts in_X2 hown hK.1 hT hq_ rfl 0 (by decide) (hts _ q109) (fun _ h => h) rfl dX2_add_1 ?_
  refine lv_aload_n hx hb dX2_add_4 rfl (lv_at hl 1 rfl) ?_
  refine zc_i (zr_V (As := [.ref v]) (rest := []) ⟨hx, hb, hml, hown, hts⟩ (ct_J2_add l g A _ b mu xs hb_ (some v) hln hel hxo) zn_J2_add (lw_V q465 q116 q117 q43 q118) rfl (by decide) (by decide) hK (fun _ h => h) hS hT (zt_recvL hK.1 hT hb_) rfl hl.1 (Nat.le_of_ble_eq_true rfl) dX2_add_5 ⟨by show _ + 1 ≤ _; omega, by show _ + 160 ≤ _; omega⟩) hS (fun _ h => h) (fun r _ H locs hr1 hT _ _ hS => ?_)
  subst hr1
  refine lv_pop hx hb dX2_add_8 rfl ?_
  refine lv_aload_n hx hb dX2_add_9 rfl (lv_at hl 1 rfl) ?_
  exact ze_q (v := some v) hx hb hr (Or.inl ⟨_, rfl⟩) hlocks hS dX2_add_10 (by show _ ≤ 1; omega) (by show _ ≤ 160; omega) () rfl hT
theorem zn_X2_iterator : zN yX2_iterator 0 := by decide +kernel
set_option maxHeartbeats 4000000 in
theorem ct_X2_iterator (l : Launch) (g : zG) (A : Nat → Prop) (T : zT) (q b : Nat) (mu : Int32) (xs : List (Option Nat)) (hq_ : T q = some (.inl (zo 1 [.ref b]))) (hb_ : T b = some (.inr (mu, xs))) : Met l yX2_iterator (ws_ yX2_iterator cX2_iterator 1 (some (.object "java/util/Iterator"))) (zR 4 1 4) (zP [.ref q] g A (zTH g A T)) (va_Qq (fun rz_ (q1 : Nat) => rz_ = some q1 ∧ T q1 = none) (fun q1 t => zTH g A (va_up T q1 (some (.inl (zo 10 [.int 0, .int (-1), .int mu, .ref b])))) t.heap) A) 1 4 A := by
  refine zb_met (by decide) (Nat.le_of_ble_eq_true rfl) ?_
  intro p e s m args below meth c ls hx hb hr hml hown hts hlocks hnm hK hT ha_ hl
  have hown : s.vm.findClass RX2 = some m.cls := hown
  have hS : va_S A s.heap s.heap [] := va_S.rf
  have hl : lv_has ls 1 [(0, .ref q)] := hl
  refine lv_aload_n hx hb dX2_iterator_0 rfl (lv_at hl 0 rfl) ?_
  refine zt_get hx hb hts in_X2 hown hK.1 hT hq_ rfl 0 (by decide) (hts _ q109) (fun _ h => h) rfl dX2_iterator_1 ?_
  refine zc_q (zr_V (As := []) (rest := []) ⟨hx, hb, hml, hown, hts⟩ (ct_J2_iterator l g A _ b mu xs hb_) zn_J2_iterator (lw_V q850 q746 q747 q43 q748) rfl (by decide) (by decide) hK (fun _ h => h) hS hT (zt_recvL hK.1 hT hb_) rfl hl.1 (Nat.le_of_ble_eq_true rfl) dX2_iterator_4 ⟨by show _ + 1 ≤ _; omega, by show _ + 4 ≤ _; omega⟩) hS (fun _ h => h) (fun r q1 H locs hr1 hT _ _ hS => ?_)
  obtain ⟨rfl, hn1⟩ := hr1
  refine zm_top (v' := .ref q1) rfl ?_
  exact ze_q (v := some q1) hx hb hr (Or.inl ⟨_, rfl⟩) hlocks hS dX2_iterator_7 (by show _ ≤ 1; omega) (by show _ ≤ 4; omega) q1 ⟨rfl, hn1⟩ hT
theorem zn_X1_isEmpty : zN yX1_isEmpty 0 := by decide +kernel
set_option maxHeartbeats 4000000 in
theorem ct_X1_isEmpty (l : Launch) (g : zG) (A : Nat → Prop) (S : zS) (X : zX) (T : zT) (hY : zSy S g X T)  : Met l yX1_isEmpty (ws_ yX1_isEmpty cX1_isEmpty 3 (some .boolean)) (zR 4 0 0) (zP [.ref (S.A 0)] g A (zTH g A T)) (va_Qi (fun rz_ (_ : Unit) => rz_ = zb (zmt S)) (fun (_ : Unit) t => zTH g A T t.heap) A) 0 0 A := by
  refine zb_met (by decide) (Nat.le_of_ble_eq_true rfl) ?_
  intro p e s m args below meth c ls hx hb hr hml hown hts hlocks hnm hK hT ha_ hl
  have hown : s.vm.findClass RX1 = some m.cls := hown
  have hS : va_S A s.heap s.heap [] := va_S.rf
  have hl : lv_has ls 3 [(0, .ref (S.A 0))] := hl
  refine lv_iconst (v := 1) hx hb dX1_isEmpty_0 (by decide) ?_
  refine lv_istore_n (lv' := [(1, .int 1), (0, .ref (S.A 0))]) hx hb dX1_isEmpty_1 rfl hl (by decide) rfl (fun ls hl => ?_)
  refine lv_iconst (v := 0) hx hb dX1_isEmpty_2 (by decide) ?_
  refine lv_istore_n (lv' := [(2, .int 0), (1, .int 1), (0, .ref (S.A 0))]) hx hb dX1_isEmpty_3 rfl hl (by decide) rfl (fun ls hl => ?_)
  refine lv_iload_n hx hb dX1_isEmpty_4 rfl (lv_at hl 0 rfl) ?_
  refine lv_iconst (v := 3) hx hb dX1_isEmpty_5 (by decide) ?_
  refine lv_icmp_ge (tgt := 32) hx hb dX1_isEmpty_6 (by decide) (fun c_1 => absurd c_1 (by decide)) (fun _ => ?_)
  refine lv_iload_n hx hb dX1_isEmpty_9 rfl (lv_at hl 1 rfl) ?_
  refine lv_aload_n hx hb dX1_isEmpty_10 rfl (lv_at hl 2 rfl) ?_
  refine zt_get hx hb hts in_X1 hown hK.1 hT hY.w rfl 6 (by decide) (hts _ q183) (fun _ h => h) rfl dX1_isEmpty_11 ?_
  refine lv_iload_n hx hb dX1_isEmpty_14 rfl (lv_at hl 0 rfl) ?_
  refine zc_q (zr_V (As := [.int 0]) (rest := [.int 1]) ⟨hx, hb, hml, hown, hts⟩ (ct_J2_get l g A T _ (S.mu 8) _ hY.rds 0 (by simpa using (by decide : 0 < 3))) zn_J2_get (lw_V q234 q235 q236 q43 q237) rfl (by decide) (by decide) hK (fun _ h => h) hS hT (zt_recvL hK.1 hT hY.rds) rfl hl.1 (Nat.le_of_ble_eq_true rfl) dX1_isEmpty_15 ⟨by show _ + 0 ≤ _; omega, by show _ + 0 ≤ _; omega⟩) hS (fun _ h => h) (fun r _ H locs hg_2 hT _ _ hS => ?_)
  subst hg_2
  refine zm_top (v' := .ref (S.A (11 + 0))) rfl ?_
  refine va_castS hx hb hown (hts _ q113) (hK.1.1 9 _ rfl).2 (zt_recvL hK.1 hT (hY.ro (show 0 < 3 by decide))) dX1_isEmpty_18 ?_
  refine zc_i (zr_V (As := []) (rest := [.int 1]) ⟨hx, hb, hml, hown, hts⟩ (ct_J2_isEmpty l g A T _ (S.mu (11 + 0)) _ (hY.ro (show 0 < 3 by decide))) zn_J2_isEmpty (lw_V q213 q214 q215 q43 q216) rfl (by decide) (by decide) hK (fun _ h => h) hS hT (zt_recvL hK.1 hT (hY.ro (show 0 < 3 by decide))) rfl hl.1 (Nat.le_of_ble_eq_true rfl) dX1_isEmpty_21 ⟨by show _ + 0 ≤ _; omega, by show _ + 0 ≤ _; omega⟩) hS (fun _ h => h) (fun r _ H locs hr1 hT _ _ hS => ?_)
  subst hr1
  refine zm_topi (y := zb (decide ((S.Rd 0).length = 0))) (by simp) ?_
  refine lv_iand hx hb dX1_isEmpty_24 ?_
  refine lv_istore_n (lv' := [(1, .int (1 &&& (zb (decide ((S.Rd 0).length = 0))))), (2, .int 0), (0, .ref (S.A 0))]) hx hb dX1_isEmpty_25 rfl hl (by decide) rfl (fun ls hl => ?_)
  refine lv_iinc (v := 1) (lv' := [(2, .int 1), (1, .int (1 &&& (zb (decide ((S.Rd 0).length = 0))))), (0, .ref (S.A 0))]) hx hb dX1_isEmpty_26 hl (k := 1) rfl (by decide) (by decide) rfl (fun ls hl => ?_)
  refine lv_goto (tgt := 4) hx hb dX1_isEmpty_29 (by decide) ?_
  refine lv_iload_n hx hb dX1_isEmpty_4 rfl (lv_at hl 0 rfl) ?_
  refine lv_iconst (v := 3) hx hb dX1_isEmpty_5 (by decide) ?_
  refine lv_icmp_ge (tgt := 32) hx hb dX1_isEmpty_6 (by decide) (fun c_3 => absurd c_3 (by decide)) (fun _ => ?_)
  refine lv_iload_n hx hb dX1_isEmpty_9 rfl (lv_at hl 1 rfl) ?_
  refine lv_aload_n hx hb dX1_isEmpty_10 rfl (lv_at hl 2 rfl) ?_
  refine zt_get hx hb hts in_X1 hown hK.1 hT hY.w rfl 6 (by decide) (hts _ q183) (fun _ h => h) rfl dX1_isEmpty_11 ?_
  refine lv_iload_n hx hb dX1_isEmpty_14 rfl (lv_at hl 0 rfl) ?_
  refine zc_q (zr_V (As := [.int 1]) (rest := [.int (1 &&& (zb (decide ((S.Rd 0).length = 0))))]) ⟨hx, hb, hml, hown, hts⟩ (ct_J2_get l g A T _ (S.mu 8) _ hY.rds 1 (by simpa using (by decide : 1 < 3))) zn_J2_get (lw_V q234 q235 q236 q43 q237) rfl (by decide) (by decide) hK (fun _ h => h) hS hT (zt_recvL hK.1 hT hY.rds) rfl hl.1 (Nat.le_of_ble_eq_true rfl) dX1_isEmpty_15 ⟨by show _ + 0 ≤ _; omega, by show _ + 0 ≤ _; omega⟩) hS (fun _ h => h) (fun r _ H locs hg_4 hT _ _ hS => ?_)
  subst hg_4
  refine zm_top (v' := .ref (S.A (11 + 1))) rfl ?_
  refine va_castS hx hb hown (hts _ q113) (hK.1.1 9 _ rfl).2 (zt_recvL hK.1 hT (hY.ro (show 1 < 3 by decide))) dX1_isEmpty_18 ?_
  refine zc_i (zr_V (As := []) (rest := [.int (1 &&& (zb (decide ((S.Rd 0).length = 0))))]) ⟨hx, hb, hml, hown, hts⟩ (ct_J2_isEmpty l g A T _ (S.mu (11 + 1)) _ (hY.ro (show 1 < 3 by decide))) zn_J2_isEmpty (lw_V q213 q214 q215 q43 q216) rfl (by decide) (by decide) hK (fun _ h => h) hS hT (zt_recvL hK.1 hT (hY.ro (show 1 < 3 by decide))) rfl hl.1 (Nat.le_of_ble_eq_true rfl) dX1_isEmpty_21 ⟨by show _ + 0 ≤ _; omega, by show _ + 0 ≤ _; omega⟩) hS (fun _ h => h) (fun r _ H locs hr1 hT _ _ hS => ?_)
  subst hr1
  refine zm_topi (y := zb (decide ((S.Rd 1).length = 0))) (by simp) ?_
  refine lv_iand hx hb dX1_isEmpty_24 ?_
  refine lv_istore_n (lv' := [(1, .int ((1 &&& (zb (decide ((S.Rd 0).length = 0)))) &&& (zb (decide ((S.Rd 1).length = 0))))), (2, .int 1), (0, .ref (S.A 0))]) hx hb dX1_isEmpty_25 rfl hl (by decide) rfl (fun ls hl => ?_)
  refine lv_iinc (v := 2) (lv' := [(2, .int 2), (1, .int ((1 &&& (zb (decide ((S.Rd 0).length = 0)))) &&& (zb (decide ((S.Rd 1).length = 0))))), (0, .ref (S.A 0))]) hx hb dX1_isEmpty_26 hl (k := 1) rfl (by decide) (by decide) rfl (fun ls hl => ?_)
  refine lv_goto (tgt := 4) hx hb dX1_isEmpty_29 (by decide) ?_
  refine lv_iload_n hx hb dX1_isEmpty_4 rfl (lv_at hl 0 rfl) ?_
  refine lv_iconst (v := 3) hx hb dX1_isEmpty_5 (by decide) ?_
  refine lv_icmp_ge (tgt := 32) hx hb dX1_isEmpty_6 (by decide) (fun c_5 => absurd c_5 (by decide)) (fun _ => ?_)
  refine lv_iload_n hx hb dX1_isEmpty_9 rfl (lv_at hl 1 rfl) ?_
  refine lv_aload_n hx hb dX1_isEmpty_10 rfl (lv_at hl 2 rfl) ?_
  refine zt_get hx hb hts in_X1 hown hK.1 hT hY.w rfl 6 (by decide) (hts _ q183) (fun _ h => h) rfl dX1_isEmpty_11 ?_
  refine lv_iload_n hx hb dX1_isEmpty_14 rfl (lv_at hl 0 rfl) ?_
  refine zc_q (zr_V (As := [.int 2]) (rest := [.int ((1 &&& (zb (decide ((S.Rd 0).length = 0)))) &&& (zb (decide ((S.Rd 1).length = 0))))]) ⟨hx, hb, hml, hown, hts⟩ (ct_J2_get l g A T _ (S.mu 8) _ hY.rds 2 (by simpa using (by decide : 2 < 3))) zn_J2_get (lw_V q234 q235 q236 q43 q237) rfl (by decide) (by decide) hK (fun _ h => h) hS hT (zt_recvL hK.1 hT hY.rds) rfl hl.1 (Nat.le_of_ble_eq_true rfl) dX1_isEmpty_15 ⟨by show _ + 0 ≤ _; omega, by show _ + 0 ≤ _; omega⟩) hS (fun _ h => h) (fun r _ H locs hg_6 hT _ _ hS => ?_)
  subst hg_6
  refine zm_top (v' := .ref (S.A (11 + 2))) rfl ?_
  refine va_castS hx hb hown (hts _ q113) (hK.1.1 9 _ rfl).2 (zt_recvL hK.1 hT (hY.ro (show 2 < 3 by decide))) dX1_isEmpty_18 ?_
  refine zc_i (zr_V (As := []) (rest := [.int ((1 &&& (zb (decide ((S.Rd 0).length = 0)))) &&& (zb (decide ((S.Rd 1).length = 0))))]) ⟨hx, hb, hml, hown, hts⟩ (ct_J2_isEmpty l g A T _ (S.mu (11 + 2)) _ (hY.ro (show 2 < 3 by decide))) zn_J2_isEmpty (lw_V q213 q214 q215 q43 q216) rfl (by decide) (by decide) hK (fun _ h => h) hS hT (zt_recvL hK.1 hT (hY.ro (show 2 < 3 by decide))) rfl hl.1 (Nat.le_of_ble_eq_true rfl) dX1_isEmpty_21 ⟨by show _ + 0 ≤ _; omega, by show _ + 0 ≤ _; omega⟩) hS (fun _ h => h) (fun r _ H locs hr1 hT _ _ hS => ?_)
  subst hr1
  refine zm_topi (y := zb (decide ((S.Rd 2).length = 0))) (by simp) ?_
  refine lv_iand hx hb dX1_isEmpty_24 ?_
  refine lv_istore_n (lv' := [(1, .int (((1 &&& (zb (decide ((S.Rd 0).length = 0)))) &&& (zb (decide ((S.Rd 1).length = 0)))) &&& (zb (decide ((S.Rd 2).length = 0))))), (2, .int 2), (0, .ref (S.A 0))]) hx hb dX1_isEmpty_25 rfl hl (by decide) rfl (fun ls hl => ?_)
  refine lv_iinc (v := 3) (lv' := [(2, .int 3), (1, .int (((1 &&& (zb (decide ((S.Rd 0).length = 0)))) &&& (zb (decide ((S.Rd 1).length = 0)))) &&& (zb (decide ((S.Rd 2).length = 0))))), (0, .ref (S.A 0))]) hx hb dX1_isEmpty_26 hl (k := 1) rfl (by decide) (by decide) rfl (fun ls hl => ?_)
  refine lv_goto (tgt := 4) hx hb dX1_isEmpty_29 (by decide) ?_
  refine lv_iload_n hx hb dX1_isEmpty_4 rfl (lv_at hl 0 rfl) ?_
  refine lv_iconst (v := 3) hx hb dX1_isEmpty_5 (by decide) ?_
  refine lv_icmp_ge (tgt := 32) hx hb dX1_isEmpty_6 (by decide) (fun _ => ?_) (fun c_7 => absurd (by decide) c_7)
  refine lv_iload_n hx hb dX1_isEmpty_32 rfl (lv_at hl 1 rfl) ?_
  refine zm_topi (y := zb (zmt S)) (zb_and3 _ _ _) ?_
  exact ze_z hx hb hr hlocks hS dX1_isEmpty_33 (by show _ ≤ 0; omega) (by show _ ≤ 0; omega) (zb_or _) () rfl hT
theorem zn_X1_moves : zN yX1_moves 2 := by decide +kernel
set_option maxHeartbeats 4000000 in
theorem ct_X1_moves (l : Launch) (g : zG) (A : Nat → Prop) (S : zS) (X : zX) (T : zT) (hY : zSy S g X T) (hW : zWo S X) (one : Nat) (hone : one < S.Wt.length) (rdd : Int32) : Met l yX1_moves (ws_ yX1_moves cX1_moves 6 (some .int)) (zR 4 0 0) (zP [.ref (S.A 0), .int (nI one), .int rdd] g A (zTH g A T)) (va_Qi (fun rz_ (_ : Unit) => rz_ = nI (zsm S.Wt S.tf one rdd)) (fun (_ : Unit) t => zTH g A T t.heap) A) 0 0 A := by
  refine zb_met (by decide) (Nat.le_of_ble_eq_true rfl) ?_
  intro p e s m args below meth c ls hx hb hr hml hown hts hlocks hnm hK hT ha_ hl
  have hown : s.vm.findClass RX1 = some m.cls := hown
  have hS : va_S A s.heap s.heap [] := va_S.rf
  have hl : lv_has ls 6 [(0, .ref (S.A 0)), (1, .int (nI one)), (2, .int rdd)] := hl
  have hlen := hW.1.1
  have hzl1 : ∀ k, zct (zsa S.tf rdd) k ≤ k := zct_le _
  have hzl2 : ∀ k, zct (zsb S.Wt S.tf one rdd) k ≤ k := zct_le _
  refine lv_iconst (v := 0) hx hb dX1_moves_0 (by decide) ?_
  refine lv_istore_n (lv' := [(3, .int 0), (0, .ref (S.A 0)), (1, .int (nI one)), (2, .int rdd)]) hx hb dX1_moves_1 rfl hl (by decide) rfl (fun ls hl => ?_)
  refine lv_iconst (v := 0) hx hb dX1_moves_2 (by decide) ?_
  refine lv_istore (lv' := [(4, .int 0), (3, .int 0), (0, .ref (S.A 0)), (1, .int (nI one)), (2, .int rdd)]) hx hb dX1_moves_3 hl (by decide) rfl (fun ls hl => ?_)
  refine lv_iconst (v := 0) hx hb dX1_moves_5 (by decide) ?_
  refine lv_istore (lv' := [(5, .int 0), (4, .int 0), (3, .int 0), (0, .ref (S.A 0)), (1, .int (nI one)), (2, .int rdd)]) hx hb dX1_moves_6 hl (by decide) rfl (fun ls hl => ?_)
  have L_2 : ∀ (n_1 : Nat) (k : Nat), (one + 1 - k) < n_1 → (k ≤ one) → ∀ (H : Heap) (locs : List Loc) (ls : Array Slot), zTH g A T H → va_S A s.heap H locs → lv_has ls 6 [(5, .int (nI k)), (4, .int (nI (zct (zsb S.Wt S.tf one rdd) k))), (3, .int (nI (zct (zsa S.tf rdd) k))), (0, .ref (S.A 0)), (1, .int (nI one)), (2, .int rdd)] → W p l e (zR 4 0 0) s m args below meth c H locs 0 0 (MQ below (va_Qi (fun rz_ (_ : Unit) => rz_ = nI (zsm S.Wt S.tf one rdd)) (fun (_ : Unit) t => zTH g A T t.heap) A) args s 0 0 A) (F0 m 8 ls []) := by
    intro n_1
    induction n_1 with
    | zero => intro k hm; exact absurd hm (Nat.not_lt_zero _)
    | succ n_1 ih =>
      intro k hm hk H locs ls hT hS hl
      have ih_3 := ih
      have hz1 := hzl1 k
      have hz2 := hzl2 k
      refine lv_iload hx hb dX1_moves_8 (lv_at hl 0 rfl) ?_
      refine lv_iload_n hx hb dX1_moves_10 rfl (lv_at hl 4 rfl) ?_
      refine zl_ge (tgt := 76) (a := k) (b := one) hx hb (by first | decide | omega) (by first | decide | omega) dX1_moves_11 (by decide) (fun c_4 => ?_) (fun c_4 => ?_)
      · refine lv_iload_n hx hb dX1_moves_76 rfl (lv_at hl 2 rfl) ?_
        refine lv_iconst (v := 4) hx hb dX1_moves_77 (by decide) ?_
        refine zl_ge (tgt := 86) (a := zct (zsa S.tf rdd) k) (b := 4) hx hb (by first | decide | omega) (by first | decide | omega) dX1_moves_78 (by decide) (fun c_5 => ?_) (fun c_5 => ?_)
        · refine lv_sipush (v := 1000) hx hb dX1_moves_86 (by decide) ?_
          have hko : k = one := by omega
          subst hko
          exact ze_i hx hb hr hlocks hS dX1_moves_89 (Nat.zero_le _) (Nat.zero_le _) () (by unfold zsm; rw [if_neg (by omega)]; rfl) hT
        · refine lv_iload hx hb dX1_moves_81 (lv_at hl 1 rfl) ?_
          refine lv_goto (tgt := 89) hx hb dX1_moves_83 (by decide) ?_
          have hko : k = one := by omega
          subst hko
          exact ze_i hx hb hr hlocks hS dX1_moves_89 (Nat.zero_le _) (Nat.zero_le _) () (by unfold zsm; rw [if_pos (by omega)]) hT
      · refine lv_aload_n hx hb dX1_moves_14 rfl (lv_at hl 3 rfl) ?_
        refine zt_get hx hb hts in_X1 hown hK.1 hT hY.w rfl 7 (by decide) (hts _ q184) (fun _ h => h) rfl dX1_moves_15 ?_
        refine lv_iload hx hb dX1_moves_18 (lv_at hl 0 rfl) ?_
        refine zt_ild (k := k) hx hb hK.1 hT hY.a9 (by omega) (by omega) dX1_moves_20 ?_
        refine lv_iload_n hx hb dX1_moves_21 rfl (lv_at hl 5 rfl) ?_
        refine lv_icmp_ne (tgt := 70) hx hb dX1_moves_22 (by decide) (fun c_6 => ?_) (fun c_6 => ?_)
        · have hl : lv_has ls 6 [(5, .int (nI k)), (4, .int (nI (zct (zsb S.Wt S.tf one rdd) k))), (3, .int (nI (zct (zsa S.tf rdd) (k + 1)))), (0, .ref (S.A 0)), (1, .int (nI one)), (2, .int rdd)] := by rw [show (nI (zct (zsa S.tf rdd) k) : Int32) = nI (zct (zsa S.tf rdd) (k + 1)) from by simp [zct, zsa, c_6]] at hl; exact hl
          have hl : lv_has ls 6 [(5, .int (nI k)), (4, .int (nI (zct (zsb S.Wt S.tf one rdd) (k + 1)))), (3, .int (nI (zct (zsa S.tf rdd) (k + 1)))), (0, .ref (S.A 0)), (1, .int (nI one)), (2, .int rdd)] := by rw [show (nI (zct (zsb S.Wt S.tf one rdd) k) : Int32) = nI (zct (zsb S.Wt S.tf one rdd) (k + 1)) from by simp [zct, zsb, c_6]] at hl; exact hl
          refine lv_iinc (v := nI (k + 1)) (lv' := [(5, .int (nI (k + 1))), (4, .int (nI (zct (zsb S.Wt S.tf one rdd) (k + 1)))), (3, .int (nI (zct (zsa S.tf rdd) (k + 1)))), (0, .ref (S.A 0)), (1, .int (nI one)), (2, .int rdd)]) hx hb dX1_moves_70 hl (k := 0) rfl (nI_1 k) (by decide) rfl (fun ls hl => ?_)
          refine lv_goto (tgt := 8) hx hb dX1_moves_73 (by decide) ?_
          exact ih_3 (k + 1) (by omega) (by omega) _ _ _ hT hS (lv_sub hl [0, 1, 2, 3, 4, 5] rfl)
        · refine lv_iinc (v := nI (zct (zsa S.tf rdd) k + 1)) (lv' := [(3, .int (nI (zct (zsa S.tf rdd) k + 1))), (5, .int (nI k)), (4, .int (nI (zct (zsb S.Wt S.tf one rdd) k))), (0, .ref (S.A 0)), (1, .int (nI one)), (2, .int rdd)]) hx hb dX1_moves_25 hl (k := 2) rfl (nI_1 (zct (zsa S.tf rdd) k)) (by decide) rfl (fun ls hl => ?_)
          refine lv_iload hx hb dX1_moves_28 (lv_at hl 2 rfl) ?_
          refine lv_aload_n hx hb dX1_moves_30 rfl (lv_at hl 3 rfl) ?_
          refine zt_get hx hb hts in_X1 hown hK.1 hT hY.w rfl 5 (by decide) (hts _ q182) (fun _ h => h) rfl dX1_moves_31 ?_
          refine lv_iload hx hb dX1_moves_34 (lv_at hl 1 rfl) ?_
          refine zc_q (zr_V (As := [.int (nI k)]) (rest := [.int (nI (zct (zsb S.Wt S.tf one rdd) k))]) ⟨hx, hb, hml, hown, hts⟩ (ct_J2_get l g A T _ (S.mu 7) _ hY.wl k (by simpa using (show k < (S.Wt).length from by omega))) zn_J2_get (lw_V q234 q235 q236 q43 q237) rfl (by decide) (by decide) hK (fun _ h => h) hS hT (zt_recvL hK.1 hT hY.wl) rfl hl.1 (Nat.le_of_ble_eq_true rfl) dX1_moves_36 ⟨by show _ + 0 ≤ _; omega, by show _ + 0 ≤ _; omega⟩) hS (fun _ h => h) (fun r _ H locs hg_7 hT _ _ hS => ?_)
          obtain ⟨q_8, hq_9, hm_10, hc_11⟩ : ∃ e, (S.Wt)[k]? = some e ∧ e.2.1 < mN X ∧ zCg S _ e := ⟨_, List.getElem?_eq_getElem (by omega), hW.1.2 _ (List.getElem_mem _), hY.wt _ (List.getElem_mem _)⟩
          have hg_7r : r = some q_8.1 := by rw [hg_7]; exact Option.some.inj ((List.getElem?_eq_getElem _).symm.trans (by rw [List.getElem?_map, hq_9]; rfl))
          clear hg_7
          subst hg_7r
          refine zm_top (v' := .ref q_8.1) rfl ?_
          refine va_castS hx hb hown (hts _ q248) (hK.1.1 8 _ rfl).2 (zt_recv hK.1 hT hc_11 (r := zCl[8]) rfl) dX1_moves_39 ?_
          refine zt_getN hx hb hts in_X9 hown hK.1 hT hc_11 rfl 1 (by decide) (va_Nw.use (A := args) rfl (hK.2.1.1 _ _ _ _ _ _ q901)) (fun _ h => h) rfl dX1_moves_42 ?_
          refine lv_aload_n hx hb dX1_moves_45 rfl (lv_at hl 3 rfl) ?_
          refine zt_get hx hb hts in_X1 hown hK.1 hT hY.w rfl 5 (by decide) (hts _ q182) (fun _ h => h) rfl dX1_moves_46 ?_
          refine lv_iload_n hx hb dX1_moves_49 rfl (lv_at hl 4 rfl) ?_
          refine zc_q (zr_V (As := [.int (nI one)]) (rest := [.int q_8.2.2, .int (nI (zct (zsb S.Wt S.tf one rdd) k))]) ⟨hx, hb, hml, hown, hts⟩ (ct_J2_get l g A T _ (S.mu 7) _ hY.wl one (by simpa using (show one < (S.Wt).length from by omega))) zn_J2_get (lw_V q234 q235 q236 q43 q237) rfl (by decide) (by decide) hK (fun _ h => h) hS hT (zt_recvL hK.1 hT hY.wl) rfl hl.1 (Nat.le_of_ble_eq_true rfl) dX1_moves_50 ⟨by show _ + 0 ≤ _; omega, by show _ + 0 ≤ _; omega⟩) hS (fun _ h => h) (fun r _ H locs hg_12 hT _ _ hS => ?_)
          obtain ⟨q_13, hq_14, hm_15, hc_16⟩ : ∃ e, (S.Wt)[one]? = some e ∧ e.2.1 < mN X ∧ zCg S _ e := ⟨_, List.getElem?_eq_getElem (by omega), hW.1.2 _ (List.getElem_mem _), hY.wt _ (List.getElem_mem _)⟩
          have hg_12r : r = some q_13.1 := by rw [hg_12]; exact Option.some.inj ((List.getElem?_eq_getElem _).symm.trans (by rw [List.getElem?_map, hq_14]; rfl))
          clear hg_12
          subst hg_12r
          refine zm_top (v' := .ref q_13.1) rfl ?_
          refine va_castS hx hb hown (hts _ q248) (hK.1.1 8 _ rfl).2 (zt_recv hK.1 hT hc_16 (r := zCl[8]) rfl) dX1_moves_53 ?_
          refine zt_getN hx hb hts in_X9 hown hK.1 hT hc_16 rfl 1 (by decide) (va_Nw.use (A := args) rfl (hK.2.1.1 _ _ _ _ _ _ q901)) (fun _ h => h) rfl dX1_moves_56 ?_
          refine lv_icmp_ge (tgt := 66) hx hb dX1_moves_59 (by decide) (fun c_17 => ?_) (fun c_17 => ?_)
          · refine lv_iconst (v := 0) hx hb dX1_moves_66 (by decide) ?_
            refine lv_iadd hx hb dX1_moves_67 ?_
            refine lv_istore (lv' := [(4, .int ((nI (zct (zsb S.Wt S.tf one rdd) k)) + 0)), (3, .int (nI (zct (zsa S.tf rdd) k + 1))), (5, .int (nI k)), (0, .ref (S.A 0)), (1, .int (nI one)), (2, .int rdd)]) hx hb dX1_moves_68 hl (by decide) rfl (fun ls hl => ?_)
            have hl : lv_has ls 6 [(4, .int ((nI (zct (zsb S.Wt S.tf one rdd) k)) + 0)), (3, .int (nI (zct (zsa S.tf rdd) (k + 1)))), (5, .int (nI k)), (0, .ref (S.A 0)), (1, .int (nI one)), (2, .int rdd)] := by rw [show (nI (zct (zsa S.tf rdd) k + 1) : Int32) = nI (zct (zsa S.tf rdd) (k + 1)) from by simp [zct, zsa, c_6]] at hl; exact hl
            have hlt : zwt S.Wt k < zwt S.Wt one ↔ q_8.2.2 < q_13.2.2 := by rw [zwt_e hq_9, zwt_e hq_14]
            have hqf : ¬ zwt S.Wt k < zwt S.Wt one := (fun z => absurd (hlt.mp z) (Int32.not_lt.mpr c_17))
            have hl : lv_has ls 6 [(4, .int (nI (zct (zsb S.Wt S.tf one rdd) (k + 1)))), (3, .int (nI (zct (zsa S.tf rdd) (k + 1)))), (5, .int (nI k)), (0, .ref (S.A 0)), (1, .int (nI one)), (2, .int rdd)] := by rw [show ((nI (zct (zsb S.Wt S.tf one rdd) k)) + 0 : Int32) = nI (zct (zsb S.Wt S.tf one rdd) (k + 1)) from by simp [zct, zsb, c_6, hqf]] at hl; exact hl
            refine lv_iinc (v := nI (k + 1)) (lv' := [(5, .int (nI (k + 1))), (4, .int (nI (zct (zsb S.Wt S.tf one rdd) (k + 1)))), (3, .int (nI (zct (zsa S.tf rdd) (k + 1)))), (0, .ref (S.A 0)), (1, .int (nI one)), (2, .int rdd)]) hx hb dX1_moves_70 hl (k := 2) rfl (nI_1 k) (by decide) rfl (fun ls hl => ?_)
            refine lv_goto (tgt := 8) hx hb dX1_moves_73 (by decide) ?_
            exact ih_3 (k + 1) (by omega) (by omega) _ _ _ hT hS (lv_sub hl [0, 1, 2, 3, 4, 5] rfl)
          · refine lv_iconst (v := 1) hx hb dX1_moves_62 (by decide) ?_
            refine lv_goto (tgt := 67) hx hb dX1_moves_63 (by decide) ?_
            refine lv_iadd hx hb dX1_moves_67 ?_
            refine zm_topi (y := nI (zct (zsb S.Wt S.tf one rdd) k + 1)) (nI_1 (zct (zsb S.Wt S.tf one rdd) k)) ?_
            refine lv_istore (lv' := [(4, .int (nI (zct (zsb S.Wt S.tf one rdd) k + 1))), (3, .int (nI (zct (zsa S.tf rdd) k + 1))), (5, .int (nI k)), (0, .ref (S.A 0)), (1, .int (nI one)), (2, .int rdd)]) hx hb dX1_moves_68 hl (by decide) rfl (fun ls hl => ?_)
            have hl : lv_has ls 6 [(4, .int (nI (zct (zsb S.Wt S.tf one rdd) k + 1))), (3, .int (nI (zct (zsa S.tf rdd) (k + 1)))), (5, .int (nI k)), (0, .ref (S.A 0)), (1, .int (nI one)), (2, .int rdd)] := by rw [show (nI (zct (zsa S.tf rdd) k + 1) : Int32) = nI (zct (zsa S.tf rdd) (k + 1)) from by simp [zct, zsa, c_6]] at hl; exact hl
            have hlt : zwt S.Wt k < zwt S.Wt one ↔ q_8.2.2 < q_13.2.2 := by rw [zwt_e hq_9, zwt_e hq_14]
            have hqt : zwt S.Wt k < zwt S.Wt one := (hlt.mpr (Int32.not_le.mp c_17))
            have hl : lv_has ls 6 [(4, .int (nI (zct (zsb S.Wt S.tf one rdd) (k + 1)))), (3, .int (nI (zct (zsa S.tf rdd) (k + 1)))), (5, .int (nI k)), (0, .ref (S.A 0)), (1, .int (nI one)), (2, .int rdd)] := by rw [show (nI (zct (zsb S.Wt S.tf one rdd) k + 1) : Int32) = nI (zct (zsb S.Wt S.tf one rdd) (k + 1)) from by simp [zct, zsb, c_6, hqt]] at hl; exact hl
            refine lv_iinc (v := nI (k + 1)) (lv' := [(5, .int (nI (k + 1))), (4, .int (nI (zct (zsb S.Wt S.tf one rdd) (k + 1)))), (3, .int (nI (zct (zsa S.tf rdd) (k + 1)))), (0, .ref (S.A 0)), (1, .int (nI one)), (2, .int rdd)]) hx hb dX1_moves_70 hl (k := 2) rfl (nI_1 k) (by decide) rfl (fun ls hl => ?_)
            refine lv_goto (tgt := 8) hx hb dX1_moves_73 (by decide) ?_
            exact ih_3 (k + 1) (by omega) (by omega) _ _ _ hT hS (lv_sub hl [0, 1, 2, 3, 4, 5] rfl)
  exact L_2 ((one + 1 - 0) + 1) 0 (Nat.lt_succ_self _) (Nat.zero_le _) _ _ _ hT hS (lv_sub hl [0, 1, 2, 3, 4, 5] rfl)
