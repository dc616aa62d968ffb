theorem zn_J16_init : zN yJ16_init 1 := by decide +kernel
set_option maxHeartbeats 4000000 in
theorem ct_J16_init (l : Launch) (g : zG) (A : Nat → Prop) (T : zT) (a : Nat) (mu : Int32) (xs : List (Option Nat)) (ha : T a = some (.inr (mu, xs))) (q : Nat) (hq_ : T q = some (.inl (zo 10 [.int 0, .int 0, .int 0, .null]))) : Met l yJ16_init (ws_ yJ16_init cJ16_init 2 none) (zR 2 0 0) (zP [.ref q, .ref a] g A (zTH g A T)) (va_Qv (fun (_ : Unit) => True) (fun (_ : Unit) t => zTH g A (va_up T q (some (.inl (zo 10 [.int 0, .int (-1), .int mu, .ref a])))) t.heap) A) 0 0 A := by
  refine zb_met (by decide) (Nat.le_of_ble_eq_true rfl) ?_
  intro p e s m args below meth c ls hx hb hr hml hown hts hlocks hnm hK hT ha_ hl
  have hown : s.vm.findClass RJ16 = some m.cls := hown
  have hS : va_S A s.heap s.heap [] := va_S.rf
  have hl : lv_has ls 2 [(0, .ref q), (1, .ref a)] := hl
  obtain ⟨M, bk, hM, hTM⟩ := hT
  obtain ⟨hL, cap, f, hL2, hlen, hcap, hcap0, hf⟩ := hTM.2.1 _ _ _ ha
  have hq1 := hTM.1 _ _ hq_
  refine lv_aload_n hx hb dJ16_init_0 rfl (lv_at hl 0 rfl) ?_
  refine lv_aload_n hx hb dJ16_init_1 rfl (lv_at hl 1 rfl) ?_
  refine zm_putF hx hb hts in_J16 tyJ16 tyJ16_ok nmJ16 hown hK.1 hM hS hq1 rfl 3 (by decide) (hts _ q758) (fun _ h => h) rfl hnm rfl (v := .ref a) (tyJ16_ok 3 (by decide)) rfl rfl (show 3 < 4 from by decide) dJ16_init_2 (fun H locs hM hS => ?_)
  obtain ⟨M_1, eM_1⟩ : ∃ M0, M0 = va_up M q (some (zo 10 [.int 0, .int 0, .int 0, .ref a])) := ⟨_, rfl⟩
  have hM : zMH g A M_1 H := by rw [eM_1]; exact hM
  have h_2 : M_1 q = some (zo 10 [.int 0, .int 0, .int 0, .ref a]) := by rw [eM_1]; exact va_up_self _ _ _
  have h_3 : M_1 a = some (zo 9 [.int mu, .ref (bk a), .int (nI xs.length)]) := by rw [eM_1]; exact (va_up_ne _ _ (fun z => by have z1 := hL; rw [z, hq1] at z1; cases z1)).trans hL
  have h_4 : M_1 (bk a) = some (zQ g cap f) := by rw [eM_1]; exact (va_up_ne _ _ (fun z => by have z1 := hL2; rw [z, hq1] at z1; cases z1)).trans hL2
  refine lv_aload_n hx hb dJ16_init_5 rfl (lv_at hl 0 rfl) ?_
  refine W.objInit hx hb hown (hts _ q754) (hts _ q72) (hts _ q73) rfl (by rw [hml]; exact hl.1) rfl dJ16_init_6 (Nat.le_of_ble_eq_true rfl) (Nat.le_of_ble_eq_true rfl) ?_
  refine W.eq (g2 := F0 m 9 ls []) rfl ?_
  refine lv_aload_n hx hb dJ16_init_9 rfl (lv_at hl 0 rfl) ?_
  refine lv_iconst (v := (-1)) hx hb dJ16_init_10 (by decide) ?_
  refine zm_put hx hb hts in_J16 tyJ16 tyJ16_ok nmJ16 hown hK.1 hM hS h_2 rfl 1 (by decide) (hts _ q756) (fun _ h => h) rfl (v := .int (-1)) (tyJ16_ok 1 (by decide)) rfl rfl (show 1 < 4 from by decide) dJ16_init_11 (fun H locs hM hS => ?_)
  obtain ⟨M_5, eM_5⟩ : ∃ M0, M0 = va_up M_1 q (some (zo 10 [.int 0, .int (-1), .int 0, .ref a])) := ⟨_, rfl⟩
  have hM : zMH g A M_5 H := by rw [eM_5]; exact hM
  have h_6 : M_5 q = some (zo 10 [.int 0, .int (-1), .int 0, .ref a]) := by rw [eM_5]; exact va_up_self _ _ _
  have h_7 : M_5 a = some (zo 9 [.int mu, .ref (bk a), .int (nI xs.length)]) := by rw [eM_5]; exact (va_up_ne _ _ (fun z => by have z1 := h_3; rw [z, h_2] at z1; cases z1)).trans h_3
  have h_8 : M_5 (bk a) = some (zQ g cap f) := by rw [eM_5]; exact (va_up_ne _ _ (fun z => by have z1 := h_4; rw [z, h_2] at z1; cases z1)).trans h_4
  refine lv_aload_n hx hb dJ16_init_14 rfl (lv_at hl 0 rfl) ?_
  refine lv_aload_n hx hb dJ16_init_15 rfl (lv_at hl 0 rfl) ?_
  refine zm_get hx hb hts in_J16 hown hK.1 hM h_6 rfl 3 (by decide) (hts _ q758) (fun _ h => h) rfl dJ16_init_16 ?_
  refine zm_get hx hb hts in_J2 hown hK.1 hM h_7 rfl 0 (by decide) (hts _ q99) (u_same (hts _ q100)) rfl dJ16_init_19 ?_
  refine zm_put hx hb hts in_J16 tyJ16 tyJ16_ok nmJ16 hown hK.1 hM hS h_6 rfl 2 (by decide) (hts _ q757) (fun _ h => h) rfl (v := .int mu) (tyJ16_ok 2 (by decide)) rfl rfl (show 2 < 4 from by decide) dJ16_init_22 (fun H locs hM hS => ?_)
  obtain ⟨M_9, eM_9⟩ : ∃ M0, M0 = va_up M_5 q (some (zo 10 [.int 0, .int (-1), .int mu, .ref a])) := ⟨_, rfl⟩
  have hM : zMH g A M_9 H := by rw [eM_9]; exact hM
  have h_10 : M_9 q = some (zo 10 [.int 0, .int (-1), .int mu, .ref a]) := by rw [eM_9]; exact va_up_self _ _ _
  have h_11 : M_9 a = some (zo 9 [.int mu, .ref (bk a), .int (nI xs.length)]) := by rw [eM_9]; exact (va_up_ne _ _ (fun z => by have z1 := h_7; rw [z, h_6] at z1; cases z1)).trans h_7
  have h_12 : M_9 (bk a) = some (zQ g cap f) := by rw [eM_9]; exact (va_up_ne _ _ (fun z => by have z1 := h_8; rw [z, h_6] at z1; cases z1)).trans h_8
  rw [eM_9, eM_5, eM_1, zup_up, zup_up] at hM
  exact ze_v hx hb hr hlocks hS dJ16_init_25 (Nat.zero_le _) (Nat.zero_le _) () trivial ⟨_, bk, hM, hTM.put hq_ _⟩
theorem zn_J16_hasNext : zN yJ16_hasNext 0 := by decide +kernel
set_option maxHeartbeats 4000000 in
theorem ct_J16_hasNext (l : Launch) (g : zG) (A : Nat → Prop) (T : zT) (a : Nat) (mu : Int32) (xs : List (Option Nat)) (ha : T a = some (.inr (mu, xs))) (q i : Nat) (lr : Int32) (hq_ : T q = some (.inl (zo 10 [.int (nI i), .int lr, .int mu, .ref a]))) (hi : i ≤ xs.length) (hn : xs.length ≤ 160) : Met l yJ16_hasNext (ws_ yJ16_hasNext cJ16_hasNext 1 (some .boolean)) (zR 1 0 0) (zP [.ref q] g A (zTH g A T)) (va_Qi (fun rz_ (_ : Unit) => rz_ = zb (decide (i < xs.length))) (fun (_ : Unit) t => zTH g A T t.heap) A) 0 0 A := by
  refine zb_met (by decide) (Nat.le_of_ble_eq_true rfl) ?_
  intro p e s m args below meth c ls hx hb hr hml hown hts hlocks hnm hK hT ha_ hl
  have hown : s.vm.findClass RJ16 = some m.cls := hown
  have hS : va_S A s.heap s.heap [] := va_S.rf
  have hl : lv_has ls 1 [(0, .ref q)] := hl
  obtain ⟨M, bk, hM, hTM⟩ := hT
  obtain ⟨hL, cap, f, hL2, hlen, hcap, hcap0, hf⟩ := hTM.2.1 _ _ _ ha
  have hq1 := hTM.1 _ _ hq_
  refine lv_aload_n hx hb dJ16_hasNext_0 rfl (lv_at hl 0 rfl) ?_
  refine zm_get hx hb hts in_J16 hown hK.1 hM hq1 rfl 0 (by decide) (hts _ q755) (fun _ h => h) rfl dJ16_hasNext_1 ?_
  refine lv_aload_n hx hb dJ16_hasNext_4 rfl (lv_at hl 0 rfl) ?_
  refine zm_get hx hb hts in_J16 hown hK.1 hM hq1 rfl 3 (by decide) (hts _ q758) (fun _ h => h) rfl dJ16_hasNext_5 ?_
  refine zm_getN hx hb hts in_J2 hown hK.1 hM hL rfl 2 (by decide) (va_Nw.use (A := args) rfl (hK.2.1.1 _ _ _ _ _ _ q96)) (fun _ h => h) rfl dJ16_hasNext_8 ?_
  refine zl_eq (tgt := 18) (a := i) (b := xs.length) hx hb (by first | decide | omega) (by first | decide | omega) dJ16_hasNext_11 (by decide) (fun c_1 => ?_) (fun c_1 => ?_)
  · refine lv_iconst (v := 0) hx hb dJ16_hasNext_18 (by decide) ?_
    exact ze_z hx hb hr hlocks hS dJ16_hasNext_19 (Nat.zero_le _) (Nat.zero_le _) (Or.inl rfl) () ((zb_f (decide_eq_false (by omega))).symm) ⟨M, bk, hM, hTM⟩
  · refine lv_iconst (v := 1) hx hb dJ16_hasNext_14 (by decide) ?_
    refine lv_goto (tgt := 19) hx hb dJ16_hasNext_15 (by decide) ?_
    exact ze_z hx hb hr hlocks hS dJ16_hasNext_19 (Nat.zero_le _) (Nat.zero_le _) (Or.inr rfl) () ((zb_t (decide_eq_true (by omega))).symm) ⟨M, bk, hM, hTM⟩
theorem zn_J16_checkForComodification : zN yJ16_checkForComodification 0 := by decide +kernel
set_option maxHeartbeats 4000000 in
theorem ct_J16_checkForComodification (l : Launch) (g : zG) (A : Nat → Prop) (T : zT) (a : Nat) (mu : Int32) (xs : List (Option Nat)) (ha : T a = some (.inr (mu, xs))) (q i : Nat) (lr : Int32) (hq_ : T q = some (.inl (zo 10 [.int (nI i), .int lr, .int mu, .ref a]))) : Met l yJ16_checkForComodification (ws_ yJ16_checkForComodification cJ16_checkForComodification 1 none) (zR 1 0 0) (zP [.ref q] g A (zTH g A T)) (va_Qv (fun (_ : Unit) => True) (fun (_ : Unit) t => zTH g A T t.heap) A) 0 0 A := by
  refine zb_met (by decide) (Nat.le_of_ble_eq_true rfl) ?_
  intro p e s m args below meth c ls hx hb hr hml hown hts hlocks hnm hK hT ha_ hl
  have hown : s.vm.findClass RJ16 = some m.cls := hown
  have hS : va_S A s.heap s.heap [] := va_S.rf
  have hl : lv_has ls 1 [(0, .ref q)] := hl
  obtain ⟨M, bk, hM, hTM⟩ := hT
  obtain ⟨hL, cap, f, hL2, hlen, hcap, hcap0, hf⟩ := hTM.2.1 _ _ _ ha
  have hq1 := hTM.1 _ _ hq_
  refine lv_aload_n hx hb dJ16_checkForComodification_0 rfl (lv_at hl 0 rfl) ?_
  refine zm_get hx hb hts in_J16 hown hK.1 hM hq1 rfl 3 (by decide) (hts _ q758) (fun _ h => h) rfl dJ16_checkForComodification_1 ?_
  refine zm_get hx hb hts in_J2 hown hK.1 hM hL rfl 0 (by decide) (hts _ q99) (u_same (hts _ q100)) rfl dJ16_checkForComodification_4 ?_
  refine lv_aload_n hx hb dJ16_checkForComodification_7 rfl (lv_at hl 0 rfl) ?_
  refine zm_get hx hb hts in_J16 hown hK.1 hM hq1 rfl 2 (by decide) (hts _ q757) (fun _ h => h) rfl dJ16_checkForComodification_8 ?_
  refine lv_icmp_eq (tgt := 22) hx hb dJ16_checkForComodification_11 (by decide) (fun c_1 => ?_) (fun c_1 => ?_)
  · exact ze_v hx hb hr hlocks hS dJ16_checkForComodification_22 (Nat.zero_le _) (Nat.zero_le _) () trivial ⟨M, bk, hM, hTM⟩
  · exact absurd rfl c_1
theorem zn_J16_next : zN yJ16_next 0 := by decide +kernel
set_option maxHeartbeats 4000000 in
theorem ct_J16_next (l : Launch) (g : zG) (A : Nat → Prop) (T : zT) (a : Nat) (mu : Int32) (xs : List (Option Nat)) (ha : T a = some (.inr (mu, xs))) (q i : Nat) (lr : Int32) (hq_ : T q = some (.inl (zo 10 [.int (nI i), .int lr, .int mu, .ref a]))) (hi : i < xs.length) : Met l yJ16_next (ws_ yJ16_next cJ16_next 3 (some (.object "java/lang/Object"))) (zR 2 0 0) (zP [.ref q] g A (zTH g A T)) (va_Qq (fun rz_ (_ : Unit) => rz_ = xs[i]) (fun (_ : Unit) t => zTH g A (va_up T q (some (.inl (zo 10 [.int (nI (i + 1)), .int (nI i), .int mu, .ref a])))) t.heap) A) 0 0 A := by
  refine zb_met (by decide) (Nat.le_of_ble_eq_true rfl) ?_
  intro p e s m args below meth c ls hx hb hr hml hown hts hlocks hnm hK hT ha_ hl
  have hown : s.vm.findClass RJ16 = some m.cls := hown
  have hS : va_S A s.heap s.heap [] := va_S.rf
  have hl : lv_has ls 3 [(0, .ref q)] := hl
  refine lv_aload_n hx hb dJ16_next_0 rfl (lv_at hl 0 rfl) ?_
  refine zc_v (zr_V (As := []) (rest := []) ⟨hx, hb, hml, hown, hts⟩ (ct_J16_checkForComodification l g A T a mu xs ha q i lr hq_) zn_J16_checkForComodification (lw_V q787 q788 q789 q63 q790) rfl (by decide) (by decide) hK (fun _ h => h) hS hT (zt_recv hK.1 hT hq_ rfl) rfl hl.1 (Nat.le_of_ble_eq_true rfl) dJ16_next_1 ⟨Nat.le_refl _, Nat.le_refl _⟩) hS (fun _ h => h) (fun _ H locs _ hT _ _ hS => ?_)
  obtain ⟨M, bk, hM, hTM⟩ := hT
  obtain ⟨hL, cap, f, hL2, hlen, hcap, hcap0, hf⟩ := hTM.2.1 _ _ _ ha
  have hq1 := hTM.1 _ _ hq_
  refine lv_aload_n hx hb dJ16_next_4 rfl (lv_at hl 0 rfl) ?_
  refine zm_get hx hb hts in_J16 hown hK.1 hM hq1 rfl 0 (by decide) (hts _ q755) (fun _ h => h) rfl dJ16_next_5 ?_
  refine lv_istore_n (lv' := [(1, .int (nI i)), (0, .ref q)]) hx hb dJ16_next_8 rfl hl (by decide) rfl (fun ls hl => ?_)
  refine lv_iload_n hx hb dJ16_next_9 rfl (lv_at hl 0 rfl) ?_
  refine lv_aload_n hx hb dJ16_next_10 rfl (lv_at hl 1 rfl) ?_
  refine zm_get hx hb hts in_J16 hown hK.1 hM hq1 rfl 3 (by decide) (hts _ q758) (fun _ h => h) rfl dJ16_next_11 ?_
  refine zm_getN hx hb hts in_J2 hown hK.1 hM hL rfl 2 (by decide) (va_Nw.use (A := args) rfl (hK.2.1.1 _ _ _ _ _ _ q96)) (fun _ h => h) rfl dJ16_next_14 ?_
  refine zl_lt (tgt := 28) (a := i) (b := xs.length) hx hb (by first | decide | omega) (by first | decide | omega) dJ16_next_17 (by decide) (fun c_1 => ?_) (fun c_1 => ?_)
  · refine lv_aload_n hx hb dJ16_next_28 rfl (lv_at hl 1 rfl) ?_
    refine zm_get hx hb hts in_J16 hown hK.1 hM hq1 rfl 3 (by decide) (hts _ q758) (fun _ h => h) rfl dJ16_next_29 ?_
    refine zm_get hx hb hts in_J2 hown hK.1 hM hL rfl 1 (by decide) (hts _ q95) (fun _ h => h) rfl dJ16_next_32 ?_
    refine lv_astore_n (lv' := [(2, .ref (bk a)), (1, .int (nI i)), (0, .ref q)]) hx hb dJ16_next_35 rfl hl (by decide) rfl (fun ls hl => ?_)
    refine lv_iload_n hx hb dJ16_next_36 rfl (lv_at hl 1 rfl) ?_
    refine lv_aload_n hx hb dJ16_next_37 rfl (lv_at hl 0 rfl) ?_
    refine zm_alen hx hb hK.1 hM 3 hL2 rfl dJ16_next_38 ?_
    refine zl_lt (tgt := 50) (a := i) (b := cap) hx hb (by first | decide | omega) (by first | decide | omega) dJ16_next_39 (by decide) (fun c_2 => ?_) (fun c_2 => ?_)
    · refine lv_aload_n hx hb dJ16_next_50 rfl (lv_at hl 2 rfl) ?_
      refine lv_iload_n hx hb dJ16_next_51 rfl (lv_at hl 1 rfl) ?_
      refine lv_iconst (v := 1) hx hb dJ16_next_52 (by decide) ?_
      refine lv_iadd hx hb dJ16_next_53 ?_
      refine zm_topi (y := nI (i + 1)) (nI_1 i) ?_
      refine zm_put hx hb hts in_J16 tyJ16 tyJ16_ok nmJ16 hown hK.1 hM hS hq1 rfl 0 (by decide) (hts _ q755) (fun _ h => h) rfl (v := .int (nI (i + 1))) (tyJ16_ok 0 (by decide)) rfl rfl (show 0 < 4 from by decide) dJ16_next_54 (fun H locs hM hS => ?_)
      obtain ⟨M_3, eM_3⟩ : ∃ M0, M0 = va_up M q (some (zo 10 [.int (nI (i + 1)), .int lr, .int mu, .ref a])) := ⟨_, rfl⟩
      have hM : zMH g A M_3 H := by rw [eM_3]; exact hM
      have h_4 : M_3 q = some (zo 10 [.int (nI (i + 1)), .int lr, .int mu, .ref a]) := by rw [eM_3]; exact va_up_self _ _ _
      have h_5 : M_3 a = some (zo 9 [.int mu, .ref (bk a), .int (nI xs.length)]) := by rw [eM_3]; exact (va_up_ne _ _ (fun z => by have z1 := hL; rw [z, hq1] at z1; cases z1)).trans hL
      have h_6 : M_3 (bk a) = some (zQ g cap f) := by rw [eM_3]; exact (va_up_ne _ _ (fun z => by have z1 := hL2; rw [z, hq1] at z1; cases z1)).trans hL2
      refine lv_aload_n hx hb dJ16_next_57 rfl (lv_at hl 0 rfl) ?_
      refine lv_aload_n hx hb dJ16_next_58 rfl (lv_at hl 2 rfl) ?_
      refine lv_iload_n hx hb dJ16_next_59 rfl (lv_at hl 1 rfl) ?_
      refine lv_dup_x1 hx hb dJ16_next_60 rfl rfl ?_
      refine zm_put hx hb hts in_J16 tyJ16 tyJ16_ok nmJ16 hown hK.1 hM hS h_4 rfl 1 (by decide) (hts _ q756) (fun _ h => h) rfl (v := .int (nI i)) (tyJ16_ok 1 (by decide)) rfl rfl (show 1 < 4 from by decide) dJ16_next_61 (fun H locs hM hS => ?_)
      obtain ⟨M_7, eM_7⟩ : ∃ M0, M0 = va_up M_3 q (some (zo 10 [.int (nI (i + 1)), .int (nI i), .int mu, .ref a])) := ⟨_, rfl⟩
      have hM : zMH g A M_7 H := by rw [eM_7]; exact hM
      have h_8 : M_7 q = some (zo 10 [.int (nI (i + 1)), .int (nI i), .int mu, .ref a]) := by rw [eM_7]; exact va_up_self _ _ _
      have h_9 : M_7 a = some (zo 9 [.int mu, .ref (bk a), .int (nI xs.length)]) := by rw [eM_7]; exact (va_up_ne _ _ (fun z => by have z1 := h_5; rw [z, h_4] at z1; cases z1)).trans h_5
      have h_10 : M_7 (bk a) = some (zQ g cap f) := by rw [eM_7]; exact (va_up_ne _ _ (fun z => by have z1 := h_6; rw [z, h_4] at z1; cases z1)).trans h_6
      refine zm_ald (k := i) hx hb hK.1 hM h_10 (by omega) (by omega) dJ16_next_64 ?_
      rw [eM_7, eM_3, zup_up] at hM
      exact ze_q (v := f i) hx hb hr (Or.inl ⟨_, rfl⟩) hlocks hS dJ16_next_65 (Nat.zero_le _) (Nat.zero_le _) () (hf i _ (List.getElem?_eq_getElem hi)) ⟨_, bk, hM, hTM.put hq_ _⟩
    · exact absurd c_2 (by omega)
  · exact absurd c_1 (by omega)
theorem zn_J2_iterator : zN yJ2_iterator 0 := by decide +kernel
set_option maxHeartbeats 4000000 in
theorem ct_J2_iterator (l : Launch) (g : zG) (A : Nat → Prop) (T : zT) (a : Nat) (mu : Int32) (xs : List (Option Nat)) (ha : T a = some (.inr (mu, xs))) : Met l yJ2_iterator (ws_ yJ2_iterator cJ2_iterator 1 (some (.object "java/util/Iterator"))) (zR 3 1 4) (zP [.ref a] g A (zTH g A T)) (va_Qq (fun rz_ (q : Nat) => rz_ = some q ∧ T q = none) (fun q t => zTH g A (va_up T q (some (.inl (zo 10 [.int 0, .int (-1), .int mu, .ref a])))) t.heap) A) 1 4 A := by
  refine zb_met (by decide) (Nat.le_of_ble_eq_true rfl) ?_
  intro p e s m args below meth c ls hx hb hr hml hown hts hlocks hnm hK hT ha_ hl
  have hown : s.vm.findClass RJ2 = some m.cls := hown
  have hS : va_S A s.heap s.heap [] := va_S.rf
  have hl : lv_has ls 1 [(0, .ref a)] := hl
  refine zt_new hx hb hts in_J16 tyJ16 tyJ16_ok hown (hts _ q749) (hts _ q750) (hts _ q63) hK.1 hT hS (ci := 10) rfl (fs := [.int 0, .int 0, .int 0, .null]) (by decide) (Nat.le_of_ble_eq_true rfl) (Nat.le_of_ble_eq_true rfl) dJ2_iterator_0 (fun q H hq hT hS => ?_)
  refine lv_dup hx hb dJ2_iterator_3 rfl ?_
  refine lv_aload_n hx hb dJ2_iterator_4 rfl (lv_at hl 0 rfl) ?_
  refine zc_v (zr_I (As := [.ref a]) (rest := [.ref q]) ⟨hx, hb, hml, hown, hts⟩ (ct_J16_init l g A _ a mu xs ((va_up_ne _ _ (fun z => by rw [z, hq] at ha; cases ha)).trans ha) q (va_up_self _ _ _)) zn_J16_init q753 q63 q751 q752 rfl (by decide) (by decide) hK (fun _ h => h) hS hT rfl hl.1 (Nat.le_of_ble_eq_true rfl) dJ2_iterator_5 ⟨Nat.le_refl _, Nat.le_refl _⟩) hS (fun _ h => h) (fun _ H locs _ hT _ _ hS => ?_)
  rw [zup_up] at hT
  exact ze_q (v := some q) hx hb hr (Or.inl ⟨_, rfl⟩) hlocks hS dJ2_iterator_8 (Nat.le_refl _) (Nat.le_refl _) q ⟨rfl, hq⟩ hT
