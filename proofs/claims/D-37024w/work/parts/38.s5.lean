theorem zn_X7_is_2 : zN yX7_is_2 1 := by decide +kernel
set_option maxHeartbeats 4000000 in
theorem ct_X7_is_2 (l : Launch) (g : zG) (A : Nat → Prop) (S : zS) (X : zX) (T : zT) (hY : zSy S g X T) (hI : MH X) (q t : Nat) (ht : t < mN X) (hq_ : T q = some (.inl (zo 6 [.ref (S.pa t), .ref (S.A 0)]))) (i : Nat) (hi : i < mN X) : Met l yX7_is_2 (ws_ yX7_is_2 cX7_is_2 2 (some .boolean)) (zR 2 0 0) (zP [.ref q, .ref (S.pa i)] g A (zTH g A T)) (va_Qi (fun rz_ (_ : Unit) => rz_ = zb (decide (¬ X 18 i < 100) && decide (mHd X i = t))) (fun (_ : Unit) t => zTH g A T t.heap) A) 0 0 A := by
  refine zb_met (by decide) (Nat.le_of_ble_eq_true rfl) ?_
  intro p e s m args below meth c ls hx hb hr hml hown hts hlocks hnm hK hT ha_ hl
  have hown : s.vm.findClass RX7 = some m.cls := hown
  have hS : va_S A s.heap s.heap [] := va_S.rf
  have hl : lv_has ls 2 [(0, .ref q), (1, .ref (S.pa i))] := hl
  refine lv_aload_n hx hb dX7_is_2_0 rfl (lv_at hl 1 rfl) ?_
  refine zt_getN hx hb hts in_X4 hown hK.1 hT (hY.p hi) rfl 12 (by decide) (va_Nw.use (A := args) rfl (hK.2.1.1 _ _ _ _ _ _ q404)) (fun _ h => h) rfl dX7_is_2_1 ?_
  refine lv_bipush (v := 100) hx hb dX7_is_2_4 (by decide) ?_
  refine lv_icmp_lt (tgt := 24) hx hb dX7_is_2_6 (by decide) (fun c_1 => ?_) (fun c_1 => ?_)
  · refine lv_iconst (v := 0) hx hb dX7_is_2_24 (by decide) ?_
    exact ze_z hx hb hr hlocks hS dX7_is_2_25 (Nat.zero_le _) (Nat.zero_le _) (Or.inl rfl) () (by simp [zb, c_1]) hT
  · refine lv_aload_n hx hb dX7_is_2_9 rfl (lv_at hl 1 rfl) ?_
    refine zc_q (zr_V (As := []) (rest := []) ⟨hx, hb, hml, hown, hts⟩ (ct_X4_head l g A S X _ hY hI i hi) zn_X4_head (lw_V q686 q552 q553 q54 q554) rfl (by decide) (by decide) hK (fun _ h => h) hS hT (zt_recv hK.1 hT (hY.p hi) rfl) rfl hl.1 (Nat.le_of_ble_eq_true rfl) dX7_is_2_10 ⟨by show _ + 0 ≤ _; omega, by show _ + 0 ≤ _; omega⟩) hS (fun _ h => h) (fun r _ H locs hr_2 hT _ _ hS => ?_)
    subst hr_2
    refine zm_top (v' := .ref (S.pa (mHd X i))) rfl ?_
    have hm_3 : mHd X i < mN X := mHd_lt hI hi
    refine lv_aload_n hx hb dX7_is_2_13 rfl (lv_at hl 0 rfl) ?_
    refine zt_get hx hb hts in_X7 hown hK.1 hT hq_ rfl 0 (by decide) (hts _ q660) (fun _ h => h) rfl dX7_is_2_14 ?_
    refine lv_acmp_ne (tgt := 24) (rx := some (S.pa (mHd X i))) (ry := some (S.pa t)) hx hb dX7_is_2_17 (by decide) (fun c_4 => ?_) (fun c_4 => ?_)
    · refine lv_iconst (v := 0) hx hb dX7_is_2_24 (by decide) ?_
      have hpi : ¬ mHd X i = t := fun z => c_4 (by rw [z])
      exact ze_z hx hb hr hlocks hS dX7_is_2_25 (Nat.zero_le _) (Nat.zero_le _) (Or.inl rfl) () (by simp [zb, c_1, hpi]) hT
    · refine lv_iconst (v := 1) hx hb dX7_is_2_20 (by decide) ?_
      refine lv_goto (tgt := 25) hx hb dX7_is_2_21 (by decide) ?_
      have hpi : mHd X i = t := hY.pinj (mHd_lt hI hi) ht (Option.some.inj c_4)
      exact ze_z hx hb hr hlocks hS dX7_is_2_25 (Nat.zero_le _) (Nat.zero_le _) (Or.inr rfl) () (by simp [zb, c_1, hpi]) hT
theorem zn_X7_is : zN yX7_is 1 := by decide +kernel
set_option maxHeartbeats 4000000 in
theorem ct_X7_is (l : Launch) (g : zG) (A : Nat → Prop) (S : zS) (X : zX) (T : zT) (hY : zSy S g X T) (hI : MH X) (q t : Nat) (ht : t < mN X) (hq_ : T q = some (.inl (zo 6 [.ref (S.pa t), .ref (S.A 0)]))) (i : Nat) (hi : i < mN X) : Met l yX7_is (ws_ yX7_is cX7_is 2 (some .boolean)) (zR 3 0 0) (zP [.ref q, .ref (S.pa i)] g A (zTH g A T)) (va_Qi (fun rz_ (_ : Unit) => rz_ = zb (decide (¬ X 18 i < 100) && decide (mHd X i = t))) (fun (_ : Unit) t => zTH g A T t.heap) A) 0 0 A := by
  refine zb_met (by decide) (Nat.le_of_ble_eq_true rfl) ?_
  intro p e s m args below meth c ls hx hb hr hml hown hts hlocks hnm hK hT ha_ hl
  have hown : s.vm.findClass RX7 = some m.cls := hown
  have hS : va_S A s.heap s.heap [] := va_S.rf
  have hl : lv_has ls 2 [(0, .ref q), (1, .ref (S.pa i))] := hl
  refine lv_aload_n hx hb dX7_is_0 rfl (lv_at hl 0 rfl) ?_
  refine lv_aload_n hx hb dX7_is_1 rfl (lv_at hl 1 rfl) ?_
  refine va_castS hx hb hown (hts _ q681) (hK.1.1 3 _ rfl).2 (zt_recv hK.1 hT (hY.p hi) (r := zCl[3]) rfl) dX7_is_2 ?_
  refine zc_i (zr_V (As := [.ref (S.pa i)]) (rest := []) ⟨hx, hb, hml, hown, hts⟩ (ct_X7_is_2 l g A S X _ hY hI q t ht hq_ i hi) zn_X7_is_2 (lw_V q682 q683 q684 q62 q685) rfl (by decide) (by decide) hK (fun _ h => h) hS hT (zt_recv hK.1 hT hq_ rfl) rfl hl.1 (Nat.le_of_ble_eq_true rfl) dX7_is_5 ⟨Nat.le_refl _, Nat.le_refl _⟩) hS (fun _ h => h) (fun r _ H locs hr1 hT _ _ hS => ?_)
  subst hr1
  exact ze_z hx hb hr hlocks hS dX7_is_8 (by show _ ≤ 0; omega) (by show _ ≤ 0; omega) (zb_or _) () (by rfl) hT
theorem zn_X8_is_2 : zN yX8_is_2 1 := by decide +kernel
set_option maxHeartbeats 4000000 in
theorem ct_X8_is_2 (l : Launch) (g : zG) (A : Nat → Prop) (S : zS) (X : zX) (T : zT) (hY : zSy S g X T) (hI : MH X) (hC : zKo S X) (hKk : zKk S X) (hz9 : ∀ p, X 9 p = 0 ∨ X 9 p = 1) (hz10 : ∀ p, X 10 p = 0 ∨ X 10 p = 1) (q t rs : Nat) (ht : t < mN X) (hrs : 1 ≤ rs ∧ rs ≤ 7) (hq_ : T q = some (.inl (zo 7 [.ref (S.pa t), .int (nI rs), .ref (S.A 0)]))) (i : Nat) (hi : i < mN X) : Met l yX8_is_2 (ws_ yX8_is_2 cX8_is_2 2 (some .boolean)) (zR 13 0 0) (zP [.ref q, .ref (S.pa i)] g A (zTH g A T)) (va_Qi (fun rz_ (_ : Unit) => rz_ = zb (decide (mHd X i = t) && zBr S X i rs)) (fun (_ : Unit) t => zTH g A T t.heap) A) 0 0 A := by
  refine zb_met (by decide) (Nat.le_of_ble_eq_true rfl) ?_
  intro p e s m args below meth c ls hx hb hr hml hown hts hlocks hnm hK hT ha_ hl
  have hown : s.vm.findClass RX8 = some m.cls := hown
  have hS : va_S A s.heap s.heap [] := va_S.rf
  have hl : lv_has ls 2 [(0, .ref q), (1, .ref (S.pa i))] := hl
  refine lv_aload_n hx hb dX8_is_2_0 rfl (lv_at hl 1 rfl) ?_
  refine zc_q (zr_V (As := []) (rest := []) ⟨hx, hb, hml, hown, hts⟩ (ct_X4_head l g A S X _ hY hI i hi) zn_X4_head (lw_V q698 q552 q553 q54 q554) rfl (by decide) (by decide) hK (fun _ h => h) hS hT (zt_recv hK.1 hT (hY.p hi) rfl) rfl hl.1 (Nat.le_of_ble_eq_true rfl) dX8_is_2_1 ⟨by show _ + 0 ≤ _; omega, by show _ + 0 ≤ _; omega⟩) hS (fun _ h => h) (fun r _ H locs hr_1 hT _ _ hS => ?_)
  subst hr_1
  refine zm_top (v' := .ref (S.pa (mHd X i))) rfl ?_
  have hm_2 : mHd X i < mN X := mHd_lt hI hi
  refine lv_aload_n hx hb dX8_is_2_4 rfl (lv_at hl 0 rfl) ?_
  refine zt_get hx hb hts in_X8 hown hK.1 hT hq_ rfl 0 (by decide) (hts _ q872) (fun _ h => h) rfl dX8_is_2_5 ?_
  refine lv_acmp_ne (tgt := 30) (rx := some (S.pa (mHd X i))) (ry := some (S.pa t)) hx hb dX8_is_2_8 (by decide) (fun c_3 => ?_) (fun c_3 => ?_)
  · refine lv_iconst (v := 0) hx hb dX8_is_2_30 (by decide) ?_
    have hpi : ¬ mHd X i = t := fun z => c_3 (by rw [z])
    exact ze_z hx hb hr hlocks hS dX8_is_2_31 (Nat.zero_le _) (Nat.zero_le _) (Or.inl rfl) () (by simp [zb, hpi]) hT
  · refine lv_aload_n hx hb dX8_is_2_11 rfl (lv_at hl 0 rfl) ?_
    refine zt_get hx hb hts in_X8 hown hK.1 hT hq_ rfl 2 (by decide) (hts _ q874) (fun _ h => h) rfl dX8_is_2_12 ?_
    refine lv_aload_n hx hb dX8_is_2_15 rfl (lv_at hl 1 rfl) ?_
    refine lv_aload_n hx hb dX8_is_2_16 rfl (lv_at hl 0 rfl) ?_
    refine zt_get hx hb hts in_X8 hown hK.1 hT hq_ rfl 1 (by decide) (hts _ q873) (fun _ h => h) rfl dX8_is_2_17 ?_
    refine zc_i (zr_VN (As := [.ref (S.pa i), .int (nI rs)]) (rest := []) ⟨hx, hb, hml, hown, hts⟩ (ct_X1_isBar l g A S X _ hY hI hC hKk hz9 hz10 i hi rs (by omega)) zn_X1_isBar q702 q39 q699 q701 qs10 (by decide) (by decide) hK (fun _ h => h) hS hT (zt_recv hK.1 hT hY.w rfl) rfl hl.1 (Nat.le_of_ble_eq_true rfl) dX8_is_2_20 ⟨by show _ + 0 ≤ _; omega, by show _ + 0 ≤ _; omega⟩) hS (fun _ h => h) (fun r _ H locs hr_4 hT _ _ hS => ?_)
    subst hr_4
    refine zl_ifeq (tgt := 30) hx hb dX8_is_2_23 (by decide) (fun c_5 => ?_) (fun c_5 => ?_)
    · refine lv_iconst (v := 0) hx hb dX8_is_2_30 (by decide) ?_
      have hpi : mHd X i = t := hY.pinj (mHd_lt hI hi) ht (Option.some.inj c_3)
      exact ze_z hx hb hr hlocks hS dX8_is_2_31 (Nat.zero_le _) (Nat.zero_le _) (Or.inl rfl) () (by simp [zb, hpi, c_5]) hT
    · refine lv_iconst (v := 1) hx hb dX8_is_2_26 (by decide) ?_
      refine lv_goto (tgt := 31) hx hb dX8_is_2_27 (by decide) ?_
      have hpi : mHd X i = t := hY.pinj (mHd_lt hI hi) ht (Option.some.inj c_3)
      exact ze_z hx hb hr hlocks hS dX8_is_2_31 (Nat.zero_le _) (Nat.zero_le _) (Or.inr rfl) () (by simp [zb, hpi, c_5]) hT
theorem zn_X8_is : zN yX8_is 1 := by decide +kernel
set_option maxHeartbeats 4000000 in
theorem ct_X8_is (l : Launch) (g : zG) (A : Nat → Prop) (S : zS) (X : zX) (T : zT) (hY : zSy S g X T) (hI : MH X) (hC : zKo S X) (hKk : zKk S X) (hz9 : ∀ p, X 9 p = 0 ∨ X 9 p = 1) (hz10 : ∀ p, X 10 p = 0 ∨ X 10 p = 1) (q t rs : Nat) (ht : t < mN X) (hrs : 1 ≤ rs ∧ rs ≤ 7) (hq_ : T q = some (.inl (zo 7 [.ref (S.pa t), .int (nI rs), .ref (S.A 0)]))) (i : Nat) (hi : i < mN X) : Met l yX8_is (ws_ yX8_is cX8_is 2 (some .boolean)) (zR 14 0 0) (zP [.ref q, .ref (S.pa i)] g A (zTH g A T)) (va_Qi (fun rz_ (_ : Unit) => rz_ = zb (decide (mHd X i = t) && zBr S X i rs)) (fun (_ : Unit) t => zTH g A T t.heap) A) 0 0 A := by
  refine zb_met (by decide) (Nat.le_of_ble_eq_true rfl) ?_
  intro p e s m args below meth c ls hx hb hr hml hown hts hlocks hnm hK hT ha_ hl
  have hown : s.vm.findClass RX8 = some m.cls := hown
  have hS : va_S A s.heap s.heap [] := va_S.rf
  have hl : lv_has ls 2 [(0, .ref q), (1, .ref (S.pa i))] := hl
  refine lv_aload_n hx hb dX8_is_0 rfl (lv_at hl 0 rfl) ?_
  refine lv_aload_n hx hb dX8_is_1 rfl (lv_at hl 1 rfl) ?_
  refine va_castS hx hb hown (hts _ q693) (hK.1.1 3 _ rfl).2 (zt_recv hK.1 hT (hY.p hi) (r := zCl[3]) rfl) dX8_is_2 ?_
  refine zc_i (zr_V (As := [.ref (S.pa i)]) (rest := []) ⟨hx, hb, hml, hown, hts⟩ (ct_X8_is_2 l g A S X _ hY hI hC hKk hz9 hz10 q t rs ht hrs hq_ i hi) zn_X8_is_2 (lw_V q694 q695 q696 q64 q697) rfl (by decide) (by decide) hK (fun _ h => h) hS hT (zt_recv hK.1 hT hq_ rfl) rfl hl.1 (Nat.le_of_ble_eq_true rfl) dX8_is_5 ⟨Nat.le_refl _, Nat.le_refl _⟩) hS (fun _ h => h) (fun r _ H locs hr1 hT _ _ hS => ?_)
  subst hr1
  exact ze_z hx hb hr hlocks hS dX8_is_8 (by show _ ≤ 0; omega) (by show _ ≤ 0; omega) (zb_or _) () (by rfl) hT
theorem zn_F_is : zN ⟨"WheelWorks$Test", "is", "(Ljava/lang/Object;)Z"⟩ 1 := by decide +kernel
theorem zn_X2_lowest7 : zN yX2_lowest 1 := by decide +kernel
set_option maxHeartbeats 4000000 in
theorem ct_X2_lowest7 (l : Launch) (g : zG) (A : Nat → Prop) (S : zS) (X : zX) (T : zT) (hY : zSy S g X T) (hI : MH X) (q t : Nat) (ht : t < mN X) (hq_ : T q = some (.inl (zo 6 [.ref (S.pa t), .ref (S.A 0)]))) : Met l yX2_lowest (ws_ yX2_lowest cX2_lowest 3 (some (.object "WheelWorks$Numbered"))) (zR 4 0 0) (zP [.ref (S.A 1), .ref q] g A (zTH g A T)) (va_Qq (fun rz_ (_ : Unit) => rz_ = (zfi (fun i => decide (¬ X 18 i < 100) && decide (mHd X i = t)) (mN X) 0).map S.pa) (fun (_ : Unit) t => zTH g A T t.heap) A) 0 0 A := by
  refine zb_met (by decide) (Nat.le_of_ble_eq_true rfl) ?_
  intro p e s m args below meth c ls hx hb hr hml hown hts hlocks hnm hK hT ha_ hl
  have hown : s.vm.findClass RX2 = some m.cls := hown
  have hS : va_S A s.heap s.heap [] := va_S.rf
  have hl : lv_has ls 3 [(0, .ref (S.A 1)), (1, .ref q)] := hl
  have hn60 := hI.1.2
  refine lv_iconst (v := 0) hx hb dX2_lowest_0 (by decide) ?_
  refine lv_istore_n (lv' := [(2, .int 0), (0, .ref (S.A 1)), (1, .ref q)]) hx hb dX2_lowest_1 rfl hl (by decide) rfl (fun ls hl => ?_)
  have L_2 : ∀ (n_1 : Nat) (k : Nat), (mN X + 1 - k) < n_1 → (k ≤ mN X) → (zfi (fun i => decide (¬ X 18 i < 100) && decide (mHd X i = t)) (mN X - k) k = zfi (fun i => decide (¬ X 18 i < 100) && decide (mHd X i = t)) (mN X) 0) → ∀ (H : Heap) (locs : List Loc) (ls : Array Slot), zTH g A T H → va_S A s.heap H locs → lv_has ls 3 [(2, .int (nI k)), (0, .ref (S.A 1)), (1, .ref q)] → W p l e (zR 4 0 0) s m args below meth c H locs 0 0 (MQ below (va_Qq (fun rz_ (_ : Unit) => rz_ = (zfi (fun i => decide (¬ X 18 i < 100) && decide (mHd X i = t)) (mN X) 0).map S.pa) (fun (_ : Unit) t => zTH g A T t.heap) A) args s 0 0 A) (F0 m 2 ls []) := by
    intro n_1
    induction n_1 with
    | zero => intro k hm; exact absurd hm (Nat.not_lt_zero _)
    | succ n_1 ih =>
      intro k hm hk hf H locs ls hT hS hl
      have ih_3 := ih
      refine lv_iload_n hx hb dX2_lowest_2 rfl (lv_at hl 0 rfl) ?_
      refine lv_aload_n hx hb dX2_lowest_3 rfl (lv_at hl 1 rfl) ?_
      refine zt_get hx hb hts in_X2 hown hK.1 hT hY.rk rfl 0 (by decide) (hts _ q109) (fun _ h => h) rfl dX2_lowest_4 ?_
      refine zc_i (zr_V (As := []) (rest := [.int (nI k)]) ⟨hx, hb, hml, hown, hts⟩ (ct_J2_size l g A T _ (S.mu 2) _ hY.th) zn_J2_size (lw_V q337 q226 q227 q43 q228) rfl (by decide) (by decide) hK (fun _ h => h) hS hT (zt_recvL hK.1 hT hY.th) rfl hl.1 (Nat.le_of_ble_eq_true rfl) dX2_lowest_7 ⟨by show _ + 0 ≤ _; omega, by show _ + 0 ≤ _; omega⟩) hS (fun _ h => h) (fun r _ H locs hr1 hT _ _ hS => ?_)
      subst hr1
      refine zm_topi (y := nI (mN X)) (by simp) ?_
      refine zl_ge (tgt := 48) (a := k) (b := mN X) hx hb (by first | decide | omega) (by first | decide | omega) dX2_lowest_10 (by decide) (fun c_4 => ?_) (fun c_4 => ?_)
      · refine lv_null hx hb dX2_lowest_48 ?_
        exact ze_q (v := none) hx hb hr (Or.inl ⟨_, rfl⟩) hlocks hS dX2_lowest_49 (by show _ ≤ 0; omega) (by show _ ≤ 0; omega) () (by rw [← hf, show mN X - k = 0 by omega]; rfl) hT
      · refine lv_aload_n hx hb dX2_lowest_13 rfl (lv_at hl 2 rfl) ?_
        refine lv_aload_n hx hb dX2_lowest_14 rfl (lv_at hl 1 rfl) ?_
        refine zt_get hx hb hts in_X2 hown hK.1 hT hY.rk rfl 0 (by decide) (hts _ q109) (fun _ h => h) rfl dX2_lowest_15 ?_
        refine lv_iload_n hx hb dX2_lowest_18 rfl (lv_at hl 0 rfl) ?_
        refine zc_q (zr_V (As := [.int (nI k)]) (rest := [.ref q]) ⟨hx, hb, hml, hown, hts⟩ (ct_J2_get l g A T _ (S.mu 2) _ hY.th k (by simpa using (show k < (List.range (mN X)).length from by simpa using (by omega : k < mN X)))) zn_J2_get (lw_V q537 q235 q236 q43 q237) rfl (by decide) (by decide) hK (fun _ h => h) hS hT (zt_recvL hK.1 hT hY.th) rfl hl.1 (Nat.le_of_ble_eq_true rfl) dX2_lowest_19 ⟨by show _ + 0 ≤ _; omega, by show _ + 0 ≤ _; omega⟩) hS (fun _ h => h) (fun r _ H locs hg_5 hT _ _ hS => ?_)
        have hk2 : k < mN X := by omega
        have hr2 : r = some (S.pa k) := by rw [hg_5]; simp
        clear hg_5
        subst hr2
        refine zm_top (v' := .ref (S.pa k)) rfl ?_
        refine zc5_i (zr_F (As := [.ref (S.pa k)]) (rest := []) (hK.1.1 6 _ rfl).2 ⟨hx, hb, hml, hown, hts⟩ (ct_X7_is l g A S X _ hY hI q t ht hq_ k hk2) zn_F_is (lw_F q672 q676 q678 q62 q680) hK.2.1.2.2.2.2.2.1 (by decide) (by decide) hK (fun _ h => h) hS hT (zt_recv hK.1 hT hq_ rfl) rfl hl.1 (Nat.le_of_ble_eq_true rfl) dX2_lowest_22 ⟨by show _ + 0 ≤ _; omega, by show _ + 0 ≤ _; omega⟩) hS (fun _ h => h) (fun r _ H locs hr1 hT _ _ hS => ?_)
        subst hr1
        refine zl_ifeq (tgt := 42) hx hb dX2_lowest_27 (by decide) (fun c_6 => ?_) (fun c_6 => ?_)
        · refine lv_iinc (v := nI (k + 1)) (lv' := [(2, .int (nI (k + 1))), (0, .ref (S.A 1)), (1, .ref q)]) hx hb dX2_lowest_42 hl (k := 0) rfl (nI_1 k) (by decide) rfl (fun ls hl => ?_)
          refine lv_goto (tgt := 2) hx hb dX2_lowest_45 (by decide) ?_
          exact ih_3 (k + 1) (by omega) (by omega) (by rw [show mN X - k = (mN X - (k + 1)) + 1 by omega, zfi_n c_6] at hf; exact hf) _ _ _ hT hS (lv_sub hl [0, 1, 2] rfl)
        · refine lv_aload_n hx hb dX2_lowest_30 rfl (lv_at hl 1 rfl) ?_
          refine zt_get hx hb hts in_X2 hown hK.1 hT hY.rk rfl 0 (by decide) (hts _ q109) (fun _ h => h) rfl dX2_lowest_31 ?_
          refine lv_iload_n hx hb dX2_lowest_34 rfl (lv_at hl 0 rfl) ?_
          refine zc_q (zr_V (As := [.int (nI k)]) (rest := []) ⟨hx, hb, hml, hown, hts⟩ (ct_J2_get l g A T _ (S.mu 2) _ hY.th k (by simpa using (show k < (List.range (mN X)).length from by simpa using (by omega : k < mN X)))) zn_J2_get (lw_V q537 q235 q236 q43 q237) rfl (by decide) (by decide) hK (fun _ h => h) hS hT (zt_recvL hK.1 hT hY.th) rfl hl.1 (Nat.le_of_ble_eq_true rfl) dX2_lowest_35 ⟨by show _ + 0 ≤ _; omega, by show _ + 0 ≤ _; omega⟩) hS (fun _ h => h) (fun r _ H locs hg_7 hT _ _ hS => ?_)
          have hr2 : r = some (S.pa k) := by rw [hg_7]; simp
          clear hg_7
          subst hr2
          refine zm_top (v' := .ref (S.pa k)) rfl ?_
          refine va_castY (C := RX4) hx hb hown (hts _ q538) (hK.2.1.2.2.1 _ _ q1354) (zt_recv hK.1 hT (hY.p hk2) rfl) dX2_lowest_38 ?_
          exact ze_q (v := some (S.pa k)) hx hb hr (Or.inl ⟨_, rfl⟩) hlocks hS dX2_lowest_41 (by show _ ≤ 0; omega) (by show _ ≤ 0; omega) () (by rw [← hf, show mN X - k = (mN X - (k + 1)) + 1 by omega]; unfold zfi; rw [if_pos c_6]; rfl) hT
  exact L_2 ((mN X + 1 - 0) + 1) 0 (Nat.lt_succ_self _) (Nat.zero_le _) rfl _ _ _ hT hS (lv_sub hl [0, 1, 2] rfl)
theorem zn_X2_lowest8 : zN yX2_lowest 1 := by decide +kernel
set_option maxHeartbeats 4000000 in
theorem ct_X2_lowest8 (l : Launch) (g : zG) (A : Nat → Prop) (S : zS) (X : zX) (T : zT) (hY : zSy S g X T) (hI : MH X) (hC : zKo S X) (hKk : zKk S X) (hz9 : ∀ p, X 9 p = 0 ∨ X 9 p = 1) (hz10 : ∀ p, X 10 p = 0 ∨ X 10 p = 1) (q t rs : Nat) (ht : t < mN X) (hrs : 1 ≤ rs ∧ rs ≤ 7) (hq_ : T q = some (.inl (zo 7 [.ref (S.pa t), .int (nI rs), .ref (S.A 0)]))) : Met l yX2_lowest (ws_ yX2_lowest cX2_lowest 3 (some (.object "WheelWorks$Numbered"))) (zR 15 0 0) (zP [.ref (S.A 1), .ref q] g A (zTH g A T)) (va_Qq (fun rz_ (_ : Unit) => rz_ = (zfi (fun i => decide (mHd X i = t) && zBr S X i rs) (mN X) 0).map S.pa) (fun (_ : Unit) t => zTH g A T t.heap) A) 0 0 A := by
  refine zb_met (by decide) (Nat.le_of_ble_eq_true rfl) ?_
  intro p e s m args below meth c ls hx hb hr hml hown hts hlocks hnm hK hT ha_ hl
  have hown : s.vm.findClass RX2 = some m.cls := hown
  have hS : va_S A s.heap s.heap [] := va_S.rf
  have hl : lv_has ls 3 [(0, .ref (S.A 1)), (1, .ref q)] := hl
  have hn60 := hI.1.2
  refine lv_iconst (v := 0) hx hb dX2_lowest_0 (by decide) ?_
  refine lv_istore_n (lv' := [(2, .int 0), (0, .ref (S.A 1)), (1, .ref q)]) hx hb dX2_lowest_1 rfl hl (by decide) rfl (fun ls hl => ?_)
  have L_2 : ∀ (n_1 : Nat) (k : Nat), (mN X + 1 - k) < n_1 → (k ≤ mN X) → (zfi (fun i => decide (mHd X i = t) && zBr S X i rs) (mN X - k) k = zfi (fun i => decide (mHd X i = t) && zBr S X i rs) (mN X) 0) → ∀ (H : Heap) (locs : List Loc) (ls : Array Slot), zTH g A T H → va_S A s.heap H locs → lv_has ls 3 [(2, .int (nI k)), (0, .ref (S.A 1)), (1, .ref q)] → W p l e (zR 15 0 0) s m args below meth c H locs 0 0 (MQ below (va_Qq (fun rz_ (_ : Unit) => rz_ = (zfi (fun i => decide (mHd X i = t) && zBr S X i rs) (mN X) 0).map S.pa) (fun (_ : Unit) t => zTH g A T t.heap) A) args s 0 0 A) (F0 m 2 ls []) := by
    intro n_1
    induction n_1 with
    | zero => intro k hm; exact absurd hm (Nat.not_lt_zero _)
    | succ n_1 ih =>
      intro k hm hk hf H locs ls hT hS hl
      have ih_3 := ih
      refine lv_iload_n hx hb dX2_lowest_2 rfl (lv_at hl 0 rfl) ?_
      refine lv_aload_n hx hb dX2_lowest_3 rfl (lv_at hl 1 rfl) ?_
      refine zt_get hx hb hts in_X2 hown hK.1 hT hY.rk rfl 0 (by decide) (hts _ q109) (fun _ h => h) rfl dX2_lowest_4 ?_
      refine zc_i (zr_V (As := []) (rest := [.int (nI k)]) ⟨hx, hb, hml, hown, hts⟩ (ct_J2_size l g A T _ (S.mu 2) _ hY.th) zn_J2_size (lw_V q337 q226 q227 q43 q228) rfl (by decide) (by decide) hK (fun _ h => h) hS hT (zt_recvL hK.1 hT hY.th) rfl hl.1 (Nat.le_of_ble_eq_true rfl) dX2_lowest_7 ⟨by show _ + 0 ≤ _; omega, by show _ + 0 ≤ _; omega⟩) hS (fun _ h => h) (fun r _ H locs hr1 hT _ _ hS => ?_)
      subst hr1
      refine zm_topi (y := nI (mN X)) (by simp) ?_
      refine zl_ge (tgt := 48) (a := k) (b := mN X) hx hb (by first | decide | omega) (by first | decide | omega) dX2_lowest_10 (by decide) (fun c_4 => ?_) (fun c_4 => ?_)
      · refine lv_null hx hb dX2_lowest_48 ?_
        exact ze_q (v := none) hx hb hr (Or.inl ⟨_, rfl⟩) hlocks hS dX2_lowest_49 (by show _ ≤ 0; omega) (by show _ ≤ 0; omega) () (by rw [← hf, show mN X - k = 0 by omega]; rfl) hT
      · refine lv_aload_n hx hb dX2_lowest_13 rfl (lv_at hl 2 rfl) ?_
        refine lv_aload_n hx hb dX2_lowest_14 rfl (lv_at hl 1 rfl) ?_
        refine zt_get hx hb hts in_X2 hown hK.1 hT hY.rk rfl 0 (by decide) (hts _ q109) (fun _ h => h) rfl dX2_lowest_15 ?_
        refine lv_iload_n hx hb dX2_lowest_18 rfl (lv_at hl 0 rfl) ?_
        refine zc_q (zr_V (As := [.int (nI k)]) (rest := [.ref q]) ⟨hx, hb, hml, hown, hts⟩ (ct_J2_get l g A T _ (S.mu 2) _ hY.th k (by simpa using (show k < (List.range (mN X)).length from by simpa using (by omega : k < mN X)))) zn_J2_get (lw_V q537 q235 q236 q43 q237) rfl (by decide) (by decide) hK (fun _ h => h) hS hT (zt_recvL hK.1 hT hY.th) rfl hl.1 (Nat.le_of_ble_eq_true rfl) dX2_lowest_19 ⟨by show _ + 0 ≤ _; omega, by show _ + 0 ≤ _; omega⟩) hS (fun _ h => h) (fun r _ H locs hg_5 hT _ _ hS => ?_)
        have hk2 : k < mN X := by omega
        have hr2 : r = some (S.pa k) := by rw [hg_5]; simp
        clear hg_5
        subst hr2
        refine zm_top (v' := .ref (S.pa k)) rfl ?_
        refine zc5_i (zr_F (As := [.ref (S.pa k)]) (rest := []) (hK.1.1 7 _ rfl).2 ⟨hx, hb, hml, hown, hts⟩ (ct_X8_is l g A S X _ hY hI hC hKk hz9 hz10 q t rs ht hrs hq_ k hk2) zn_F_is (lw_F q672 q688 q690 q64 q692) hK.2.1.2.2.2.2.2.2.1 (by decide) (by decide) hK (fun _ h => h) hS hT (zt_recv hK.1 hT hq_ rfl) rfl hl.1 (Nat.le_of_ble_eq_true rfl) dX2_lowest_22 ⟨by show _ + 0 ≤ _; omega, by show _ + 0 ≤ _; omega⟩) hS (fun _ h => h) (fun r _ H locs hr1 hT _ _ hS => ?_)
        subst hr1
        refine zl_ifeq (tgt := 42) hx hb dX2_lowest_27 (by decide) (fun c_6 => ?_) (fun c_6 => ?_)
        · refine lv_iinc (v := nI (k + 1)) (lv' := [(2, .int (nI (k + 1))), (0, .ref (S.A 1)), (1, .ref q)]) hx hb dX2_lowest_42 hl (k := 0) rfl (nI_1 k) (by decide) rfl (fun ls hl => ?_)
          refine lv_goto (tgt := 2) hx hb dX2_lowest_45 (by decide) ?_
          exact ih_3 (k + 1) (by omega) (by omega) (by rw [show mN X - k = (mN X - (k + 1)) + 1 by omega, zfi_n c_6] at hf; exact hf) _ _ _ hT hS (lv_sub hl [0, 1, 2] rfl)
        · refine lv_aload_n hx hb dX2_lowest_30 rfl (lv_at hl 1 rfl) ?_
          refine zt_get hx hb hts in_X2 hown hK.1 hT hY.rk rfl 0 (by decide) (hts _ q109) (fun _ h => h) rfl dX2_lowest_31 ?_
          refine lv_iload_n hx hb dX2_lowest_34 rfl (lv_at hl 0 rfl) ?_
          refine zc_q (zr_V (As := [.int (nI k)]) (rest := []) ⟨hx, hb, hml, hown, hts⟩ (ct_J2_get l g A T _ (S.mu 2) _ hY.th k (by simpa using (show k < (List.range (mN X)).length from by simpa using (by omega : k < mN X)))) zn_J2_get (lw_V q537 q235 q236 q43 q237) rfl (by decide) (by decide) hK (fun _ h => h) hS hT (zt_recvL hK.1 hT hY.th) rfl hl.1 (Nat.le_of_ble_eq_true rfl) dX2_lowest_35 ⟨by show _ + 0 ≤ _; omega, by show _ + 0 ≤ _; omega⟩) hS (fun _ h => h) (fun r _ H locs hg_7 hT _ _ hS => ?_)
          have hr2 : r = some (S.pa k) := by rw [hg_7]; simp
          clear hg_7
          subst hr2
          refine zm_top (v' := .ref (S.pa k)) rfl ?_
          refine va_castY (C := RX4) hx hb hown (hts _ q538) (hK.2.1.2.2.1 _ _ q1354) (zt_recv hK.1 hT (hY.p hk2) rfl) dX2_lowest_38 ?_
          exact ze_q (v := some (S.pa k)) hx hb hr (Or.inl ⟨_, rfl⟩) hlocks hS dX2_lowest_41 (by show _ ≤ 0; omega) (by show _ ≤ 0; omega) () (by rw [← hf, show mN X - k = (mN X - (k + 1)) + 1 by omega]; unfold zfi; rw [if_pos c_6]; rfl) hT
  exact L_2 ((mN X + 1 - 0) + 1) 0 (Nat.lt_succ_self _) (Nat.zero_le _) rfl _ _ _ hT hS (lv_sub hl [0, 1, 2] rfl)
