theorem zn_X4_lacks : zN yX4_lacks 0 := by decide +kernel
set_option maxHeartbeats 4000000 in
theorem ct_X4_lacks (l : Launch) (g : zG) (A : Nat → Prop) (S : zS) (X : zX) (T : zT) (hY : zSy S g X T) (hI : MH X) (hC : zKo S X) (i : Nat) (hi : i < mN X) : Met l yX4_lacks (ws_ yX4_lacks cX4_lacks 3 (some .boolean)) (zR 5 0 0) (zP [.ref (S.pa i)] g A (zTH g A T)) (va_Qi (fun rz_ (_ : Unit) => rz_ = zb (zany (zlk S X i) 5)) (fun (_ : Unit) t => zTH g A T t.heap) A) 0 0 A := by
  refine zb_met (by decide) (Nat.le_of_ble_eq_true rfl) ?_
  intro p e s m args below meth c ls hx hb hr hml hown hts hlocks hnm hK hT ha_ hl
  have hown : s.vm.findClass RX4 = some m.cls := hown
  have hS : va_S A s.heap s.heap [] := va_S.rf
  have hl : lv_has ls 3 [(0, .ref (S.pa i))] := hl
  refine lv_iconst (v := 0) hx hb dX4_lacks_0 (by decide) ?_
  refine lv_istore_n (lv' := [(1, .int 0), (0, .ref (S.pa i))]) hx hb dX4_lacks_1 rfl hl (by decide) rfl (fun ls hl => ?_)
  refine lv_iconst (v := 0) hx hb dX4_lacks_2 (by decide) ?_
  refine lv_istore_n (lv' := [(2, .int 0), (1, .int 0), (0, .ref (S.pa i))]) hx hb dX4_lacks_3 rfl hl (by decide) rfl (fun ls hl => ?_)
  have L_2 : ∀ (n_1 : Nat) (k : Nat), (6 - k) < n_1 → (k ≤ 5) → ∀ (H : Heap) (locs : List Loc) (ls : Array Slot), zTH g A T H → va_S A s.heap H locs → lv_has ls 3 [(2, .int (nI k)), (1, .int (zb (zany (zlk S X i) k))), (0, .ref (S.pa i))] → W p l e (zR 5 0 0) s m args below meth c H locs 0 0 (MQ below (va_Qi (fun rz_ (_ : Unit) => rz_ = zb (zany (zlk S X i) 5)) (fun (_ : Unit) t => zTH g A T t.heap) A) args s 0 0 A) (F0 m 4 ls []) := by
    intro n_1
    induction n_1 with
    | zero => intro k hm; exact absurd hm (Nat.not_lt_zero _)
    | succ n_1 ih =>
      intro k hm hk H locs ls hT hS hl
      have ih_3 := ih
      refine lv_iload_n hx hb dX4_lacks_4 rfl (lv_at hl 0 rfl) ?_
      refine lv_iconst (v := 5) hx hb dX4_lacks_5 (by decide) ?_
      refine zl_ge (tgt := 36) (a := k) (b := 5) hx hb (by first | decide | omega) (by first | decide | omega) dX4_lacks_6 (by decide) (fun c_4 => ?_) (fun c_4 => ?_)
      · refine lv_iload_n hx hb dX4_lacks_36 rfl (lv_at hl 1 rfl) ?_
        exact ze_z hx hb hr hlocks hS dX4_lacks_37 (by show _ ≤ 0; omega) (by show _ ≤ 0; omega) (zb_or _) () (by rw [show k = 5 by omega]) hT
      · refine lv_iload_n hx hb dX4_lacks_9 rfl (lv_at hl 1 rfl) ?_
        refine lv_aload_n hx hb dX4_lacks_10 rfl (lv_at hl 2 rfl) ?_
        refine lv_iload_n hx hb dX4_lacks_11 rfl (lv_at hl 0 rfl) ?_
        refine zc_i (zr_V (As := [.int (nI k)]) (rest := [.int (zb (zany (zlk S X i) k))]) ⟨hx, hb, hml, hown, hts⟩ (ct_X4_count l g A S X _ hY hC i hi (nI k)) zn_X4_count (lw_V q707 q557 q558 q54 q559) rfl (by decide) (by decide) hK (fun _ h => h) hS hT (zt_recv hK.1 hT (hY.p hi) rfl) rfl hl.1 (Nat.le_of_ble_eq_true rfl) dX4_lacks_12 ⟨by show _ + 0 ≤ _; omega, by show _ + 0 ≤ _; omega⟩) hS (fun _ h => h) (fun r _ H locs hr_5 hT _ _ hS => ?_)
        subst hr_5
        refine lv_aload_n hx hb dX4_lacks_15 rfl (lv_at hl 2 rfl) ?_
        refine lv_iload_n hx hb dX4_lacks_16 rfl (lv_at hl 0 rfl) ?_
        refine zc_i (zr_V (As := [.int (nI k)]) (rest := [.int (nI ((S.K i).countP (fun q => decide (X 2 q = (nI k))))), .int (zb (zany (zlk S X i) k))]) ⟨hx, hb, hml, hown, hts⟩ (ct_X4_places l g A S X _ hY hI i hi (nI k)) zn_X4_places (lw_V q708 q540 q541 q54 q542) rfl (by decide) (by decide) hK (fun _ h => h) hS hT (zt_recv hK.1 hT (hY.p hi) rfl) rfl hl.1 (Nat.le_of_ble_eq_true rfl) dX4_lacks_17 ⟨by show _ + 0 ≤ _; omega, by show _ + 0 ≤ _; omega⟩) hS (fun _ h => h) (fun r _ H locs hr_6 hT _ _ hS => ?_)
        subst hr_6
        refine lv_icmp_ge (tgt := 27) hx hb dX4_lacks_20 (by decide) (fun c_7 => ?_) (fun c_7 => ?_)
        · refine lv_iconst (v := 0) hx hb dX4_lacks_27 (by decide) ?_
          refine lv_ior hx hb dX4_lacks_28 ?_
          refine zm_topi (y := zb (zany (zlk S X i) (k + 1))) (by show _ = zb (zany (zlk S X i) k || zlk S X i k); rw [← zb_ior]; congr 1; exact (zb_f (decide_eq_false (Int32.not_lt.mpr c_7))).symm) ?_
          refine lv_istore_n (lv' := [(1, .int (zb (zany (zlk S X i) (k + 1)))), (2, .int (nI k)), (0, .ref (S.pa i))]) hx hb dX4_lacks_29 rfl hl (by decide) rfl (fun ls hl => ?_)
          refine lv_iinc (v := nI (k + 1)) (lv' := [(2, .int (nI (k + 1))), (1, .int (zb (zany (zlk S X i) (k + 1)))), (0, .ref (S.pa i))]) hx hb dX4_lacks_30 hl (k := 1) rfl (nI_1 k) (by decide) rfl (fun ls hl => ?_)
          refine lv_goto (tgt := 4) hx hb dX4_lacks_33 (by decide) ?_
          exact ih_3 (k + 1) (by omega) (by omega) _ _ _ hT hS (lv_sub hl [0, 1, 2] rfl)
        · refine lv_iconst (v := 1) hx hb dX4_lacks_23 (by decide) ?_
          refine lv_goto (tgt := 28) hx hb dX4_lacks_24 (by decide) ?_
          refine lv_ior hx hb dX4_lacks_28 ?_
          refine zm_topi (y := zb (zany (zlk S X i) (k + 1))) (by show _ = zb (zany (zlk S X i) k || zlk S X i k); rw [← zb_ior]; congr 1; exact (zb_t (decide_eq_true (Int32.not_le.mp c_7))).symm) ?_
          refine lv_istore_n (lv' := [(1, .int (zb (zany (zlk S X i) (k + 1)))), (2, .int (nI k)), (0, .ref (S.pa i))]) hx hb dX4_lacks_29 rfl hl (by decide) rfl (fun ls hl => ?_)
          refine lv_iinc (v := nI (k + 1)) (lv' := [(2, .int (nI (k + 1))), (1, .int (zb (zany (zlk S X i) (k + 1)))), (0, .ref (S.pa i))]) hx hb dX4_lacks_30 hl (k := 1) rfl (nI_1 k) (by decide) rfl (fun ls hl => ?_)
          refine lv_goto (tgt := 4) hx hb dX4_lacks_33 (by decide) ?_
          exact ih_3 (k + 1) (by omega) (by omega) _ _ _ hT hS (lv_sub hl [0, 1, 2] rfl)
  exact L_2 ((6 - 0) + 1) 0 (Nat.lt_succ_self _) (Nat.zero_le _) _ _ _ hT hS (lv_sub hl [0, 1, 2] rfl)
theorem zn_X4_diameter : zN yX4_diameter 1 := by decide +kernel
set_option maxHeartbeats 4000000 in
theorem ct_X4_diameter (l : Launch) (g : zG) (A : Nat → Prop) (S : zS) (X : zX) (T : zT) (hY : zSy S g X T) (hI : MH X) (hC : zKo S X) (hKk : zKk S X) (b : Bool) (n : Nat) : ∀ (i : Nat) (hi : i < mN X) (hn : 5 ≤ mK X i + n), Met l yX4_diameter (ws_ yX4_diameter cX4_diameter 5 (some .int)) (zR (n + 5) 0 0) (zP [.ref (S.pa i), .int (zb b)] g A (zTH g A T)) (va_Qi (fun rz_ (_ : Unit) => rz_ = zdi S X b n i) (fun (_ : Unit) t => zTH g A T t.heap) A) 0 0 A := by
  induction n with
  | zero => intro i hi hn; have := (hI.2.1 i hi).2; omega
  | succ n IH =>
    intro i hi hn
    have hlen := (hC i hi).1
    refine zb_met (by decide) (Nat.le_of_ble_eq_true rfl) ?_
    intro p e s m args below meth c ls hx hb hr hml hown hts hlocks hnm hK hT ha_ hl
    have hown : s.vm.findClass RX4 = some m.cls := hown
    have hS : va_S A s.heap s.heap [] := va_S.rf
    have hl : lv_has ls 5 [(0, .ref (S.pa i)), (1, .int (zb b))] := hl
    refine lv_aload_n hx hb dX4_diameter_0 rfl (lv_at hl 0 rfl) ?_
    refine zt_get hx hb hts in_X4 hown hK.1 hT (hY.p hi) rfl 1 (by decide) (hts _ q384) (fun _ h => h) rfl dX4_diameter_1 ?_
    refine lv_iconst (v := 3) hx hb dX4_diameter_4 (by decide) ?_
    refine lv_icmp_ne (tgt := 15) hx hb dX4_diameter_5 (by decide) (fun c_1 => ?_) (fun c_1 => ?_)
    · refine lv_iload_n hx hb dX4_diameter_15 rfl (lv_at hl 1 rfl) ?_
      refine zl_ifeq (tgt := 23) hx hb dX4_diameter_16 (by decide) (fun c_2 => ?_) (fun c_2 => ?_)
      · refine lv_ldc (v := 2147483647) hx hb hown (hts _ q722) dX4_diameter_23 ?_
        refine zm_topi (y := ((S.K i).take 0).foldl (zdS X b (zdi S X b n)) (if X 2 i = 3 then X 13 i else if b = true then 0 else 2147483647)) (by show _ = (if X 2 i = 3 then X 13 i else if b = true then 0 else 2147483647); rw [if_neg c_1, if_neg (by rw [c_2]; decide)]) ?_
        refine lv_istore_n (lv' := [(2, .int (((S.K i).take 0).foldl (zdS X b (zdi S X b n)) (if X 2 i = 3 then X 13 i else if b = true then 0 else 2147483647))), (0, .ref (S.pa i)), (1, .int (zb b))]) hx hb dX4_diameter_25 rfl hl (by decide) rfl (fun ls hl => ?_)
        refine lv_iconst (v := 0) hx hb dX4_diameter_26 (by decide) ?_
        refine lv_istore_n (lv' := [(3, .int 0), (2, .int (((S.K i).take 0).foldl (zdS X b (zdi S X b n)) (if X 2 i = 3 then X 13 i else if b = true then 0 else 2147483647))), (0, .ref (S.pa i)), (1, .int (zb b))]) hx hb dX4_diameter_27 rfl hl (by decide) rfl (fun ls hl => ?_)
        have L_4 : ∀ (n_3 : Nat) (k : Nat), ((S.K i).length + 1 - k) < n_3 → (k ≤ (S.K i).length) → ∀ (H : Heap) (locs : List Loc) (ls : Array Slot), zTH g A T H → va_S A s.heap H locs → lv_has ls 5 [(3, .int (nI k)), (2, .int (((S.K i).take k).foldl (zdS X b (zdi S X b n)) (if X 2 i = 3 then X 13 i else if b = true then 0 else 2147483647))), (0, .ref (S.pa i)), (1, .int (zb b))] → W p l e (zR (n + 1 + 5) 0 0) s m args below meth c H locs 0 0 (MQ below (va_Qi (fun rz_ (_ : Unit) => rz_ = zdi S X b (n + 1) i) (fun (_ : Unit) t => zTH g A T t.heap) A) args s 0 0 A) (F0 m 28 ls []) := by
          intro n_3
          induction n_3 with
          | zero => intro k hm; exact absurd hm (Nat.not_lt_zero _)
          | succ n_3 ih =>
            intro k hm hk H locs ls hT hS hl
            have ih_5 := ih
            refine lv_iload_n hx hb dX4_diameter_28 rfl (lv_at hl 0 rfl) ?_
            refine lv_aload_n hx hb dX4_diameter_29 rfl (lv_at hl 2 rfl) ?_
            refine zt_get hx hb hts in_X4 hown hK.1 hT (hY.p hi) rfl 5 (by decide) (hts _ q392) (fun _ h => h) rfl dX4_diameter_30 ?_
            refine zc_i (zr_V (As := []) (rest := [.int (nI k)]) ⟨hx, hb, hml, hown, hts⟩ (ct_J2_size l g A T _ (S.mu (23 + 4 * i)) _ (hY.k hi)) zn_J2_size (lw_V q560 q226 q227 q43 q228) rfl (by omega) (by decide) hK (fun _ h => h) hS hT (zt_recvL hK.1 hT (hY.k hi)) rfl hl.1 (Nat.le_of_ble_eq_true rfl) dX4_diameter_33 ⟨by show _ + 0 ≤ _; omega, by show _ + 0 ≤ _; omega⟩) hS (fun _ h => h) (fun r _ H locs hr1 hT _ _ hS => ?_)
            subst hr1
            refine zm_topi (y := nI ((S.K i).length)) (by simp) ?_
            refine zl_ge (tgt := 104) (a := k) (b := (S.K i).length) hx hb (by first | decide | omega) (by first | decide | omega) dX4_diameter_36 (by decide) (fun c_6 => ?_) (fun c_6 => ?_)
            · refine lv_iload_n hx hb dX4_diameter_104 rfl (lv_at hl 1 rfl) ?_
              exact ze_i hx hb hr hlocks hS dX4_diameter_105 (by show _ ≤ 0; omega) (by show _ ≤ 0; omega) () (by rw [List.take_of_length_le (by omega)]; rfl) hT
            · refine lv_aload_n hx hb dX4_diameter_39 rfl (lv_at hl 2 rfl) ?_
              refine zt_get hx hb hts in_X4 hown hK.1 hT (hY.p hi) rfl 5 (by decide) (hts _ q392) (fun _ h => h) rfl dX4_diameter_40 ?_
              refine lv_iload_n hx hb dX4_diameter_43 rfl (lv_at hl 0 rfl) ?_
              refine zc_q (zr_V (As := [.int (nI k)]) (rest := []) ⟨hx, hb, hml, hown, hts⟩ (ct_J2_get l g A T _ (S.mu (23 + 4 * i)) _ (hY.k hi) k (by simpa using (show k < (S.K i).length from by omega))) zn_J2_get (lw_V q561 q235 q236 q43 q237) rfl (by omega) (by decide) hK (fun _ h => h) hS hT (zt_recvL hK.1 hT (hY.k hi)) rfl hl.1 (Nat.le_of_ble_eq_true rfl) dX4_diameter_44 ⟨by show _ + 0 ≤ _; omega, by show _ + 0 ≤ _; omega⟩) hS (fun _ h => h) (fun r _ H locs hg_7 hT _ _ hS => ?_)
              obtain ⟨q_8, hq_9, hm_10⟩ : ∃ q, (S.K i)[k]? = some q ∧ q < mN X := ⟨_, List.getElem?_eq_getElem (by omega), (hC _ hi).2 _ (List.getElem_mem _)⟩
              have hg_7r : r = some (S.pa q_8) := by rw [hg_7]; exact Option.some.inj ((List.getElem?_eq_getElem _).symm.trans (by rw [List.getElem?_map, hq_9]; rfl))
              clear hg_7
              subst hg_7r
              refine zm_top (v' := .ref (S.pa q_8)) rfl ?_
              refine va_castS hx hb hown (hts _ q555) (hK.1.1 3 _ rfl).2 (zt_recv hK.1 hT (hY.p hm_10) (r := zCl[3]) rfl) dX4_diameter_47 ?_
              refine lv_iload_n hx hb dX4_diameter_50 rfl (lv_at hl 3 rfl) ?_
              refine zc_i (zr_V (As := [.int (zb b)]) (rest := []) ⟨hx, hb, hml, hown, hts⟩ (IH q_8 hm_10 (by have := hKk _ hi _ (List.mem_of_getElem? hq_9); omega)) zn_X4_diameter (lw_V q718 q719 q720 q54 q721) rfl (by omega) (by decide) hK (fun _ h => h) hS hT (zt_recv hK.1 hT (hY.p hm_10) rfl) rfl hl.1 (Nat.le_of_ble_eq_true rfl) dX4_diameter_51 ⟨by show _ + 0 ≤ _; omega, by show _ + 0 ≤ _; omega⟩) hS (fun _ h => h) (fun r _ H locs hr1 hT _ _ hS => ?_)
              subst hr1
              refine lv_istore (lv' := [(4, .int (zdi S X b n q_8)), (3, .int (nI k)), (2, .int (((S.K i).take k).foldl (zdS X b (zdi S X b n)) (if X 2 i = 3 then X 13 i else if b = true then 0 else 2147483647))), (0, .ref (S.pa i)), (1, .int (zb b))]) hx hb dX4_diameter_54 hl (by decide) rfl (fun ls hl => ?_)
              refine lv_aload_n hx hb dX4_diameter_56 rfl (lv_at hl 3 rfl) ?_
              refine zt_get hx hb hts in_X4 hown hK.1 hT (hY.p hi) rfl 5 (by decide) (hts _ q392) (fun _ h => h) rfl dX4_diameter_57 ?_
              refine lv_iload_n hx hb dX4_diameter_60 rfl (lv_at hl 1 rfl) ?_
              refine zc_q (zr_V (As := [.int (nI k)]) (rest := []) ⟨hx, hb, hml, hown, hts⟩ (ct_J2_get l g A T _ (S.mu (23 + 4 * i)) _ (hY.k hi) k (by simpa using (show k < (S.K i).length from by omega))) zn_J2_get (lw_V q561 q235 q236 q43 q237) rfl (by omega) (by decide) hK (fun _ h => h) hS hT (zt_recvL hK.1 hT (hY.k hi)) rfl hl.1 (Nat.le_of_ble_eq_true rfl) dX4_diameter_61 ⟨by show _ + 0 ≤ _; omega, by show _ + 0 ≤ _; omega⟩) hS (fun _ h => h) (fun r _ H locs hg_11 hT _ _ hS => ?_)
              have hg_11r : r = some (S.pa q_8) := by rw [hg_11]; exact Option.some.inj ((List.getElem?_eq_getElem _).symm.trans (by rw [List.getElem?_map, hq_9]; rfl))
              clear hg_11
              subst hg_11r
              refine zm_top (v' := .ref (S.pa q_8)) rfl ?_
              refine va_castS hx hb hown (hts _ q555) (hK.1.1 3 _ rfl).2 (zt_recv hK.1 hT (hY.p hm_10) (r := zCl[3]) rfl) dX4_diameter_64 ?_
              refine zt_get hx hb hts in_X4 hown hK.1 hT (hY.p hm_10) rfl 1 (by decide) (hts _ q384) (fun _ h => h) rfl dX4_diameter_67 ?_
              refine lv_iconst (v := 4) hx hb dX4_diameter_70 (by decide) ?_
              refine lv_icmp_ne (tgt := 78) hx hb dX4_diameter_71 (by decide) (fun c_12 => ?_) (fun c_12 => ?_)
              · refine lv_iload_n hx hb dX4_diameter_78 rfl (lv_at hl 4 rfl) ?_
                refine zl_ifeq (tgt := 91) hx hb dX4_diameter_79 (by decide) (fun _ => ?_) (fun c_13 => by rw [c_2] at c_13; cases c_13)
                refine lv_iload_n hx hb dX4_diameter_91 rfl (lv_at hl 2 rfl) ?_
                refine lv_iload hx hb dX4_diameter_92 (lv_at hl 0 rfl) ?_
                refine va_mmin hx hb (by rw [hml]; exact hl.1.symm) hown (hts _ q724) (hts _ q170) (hts _ q45) (hts _ q171) (Nat.le_of_ble_eq_true rfl) (Nat.le_of_ble_eq_true rfl) (by show _ ≤ 0; omega) (by show _ ≤ 0; omega) dX4_diameter_94 ?_
                refine zm_topi (y := ((S.K i).take (k + 1)).foldl (zdS X b (zdi S X b n)) (if X 2 i = 3 then X 13 i else if b = true then 0 else 2147483647)) (by rw [zft hq_9]; exact (zdS_f c_12 c_2).symm) ?_
                refine lv_istore_n (lv' := [(2, .int (((S.K i).take (k + 1)).foldl (zdS X b (zdi S X b n)) (if X 2 i = 3 then X 13 i else if b = true then 0 else 2147483647))), (4, .int (zdi S X b n q_8)), (3, .int (nI k)), (0, .ref (S.pa i)), (1, .int (zb b))]) hx hb dX4_diameter_97 rfl hl (by decide) rfl (fun ls hl => ?_)
                refine lv_iinc (v := nI (k + 1)) (lv' := [(3, .int (nI (k + 1))), (2, .int (((S.K i).take (k + 1)).foldl (zdS X b (zdi S X b n)) (if X 2 i = 3 then X 13 i else if b = true then 0 else 2147483647))), (4, .int (zdi S X b n q_8)), (0, .ref (S.pa i)), (1, .int (zb b))]) hx hb dX4_diameter_98 hl (k := 2) rfl (nI_1 k) (by decide) rfl (fun ls hl => ?_)
                refine lv_goto (tgt := 28) hx hb dX4_diameter_101 (by decide) ?_
                exact ih_5 (k + 1) (by omega) (by omega) _ _ _ hT hS (lv_sub hl [0, 1, 3, 4] rfl)
              · refine lv_iload_n hx hb dX4_diameter_74 rfl (lv_at hl 2 rfl) ?_
                refine lv_goto (tgt := 97) hx hb dX4_diameter_75 (by decide) ?_
                refine zm_topi (y := ((S.K i).take (k + 1)).foldl (zdS X b (zdi S X b n)) (if X 2 i = 3 then X 13 i else if b = true then 0 else 2147483647)) (by rw [zft hq_9]; exact (zdS_m c_12).symm) ?_
                refine lv_istore_n (lv' := [(2, .int (((S.K i).take (k + 1)).foldl (zdS X b (zdi S X b n)) (if X 2 i = 3 then X 13 i else if b = true then 0 else 2147483647))), (4, .int (zdi S X b n q_8)), (3, .int (nI k)), (0, .ref (S.pa i)), (1, .int (zb b))]) hx hb dX4_diameter_97 rfl hl (by decide) rfl (fun ls hl => ?_)
                refine lv_iinc (v := nI (k + 1)) (lv' := [(3, .int (nI (k + 1))), (2, .int (((S.K i).take (k + 1)).foldl (zdS X b (zdi S X b n)) (if X 2 i = 3 then X 13 i else if b = true then 0 else 2147483647))), (4, .int (zdi S X b n q_8)), (0, .ref (S.pa i)), (1, .int (zb b))]) hx hb dX4_diameter_98 hl (k := 2) rfl (nI_1 k) (by decide) rfl (fun ls hl => ?_)
                refine lv_goto (tgt := 28) hx hb dX4_diameter_101 (by decide) ?_
                exact ih_5 (k + 1) (by omega) (by omega) _ _ _ hT hS (lv_sub hl [0, 1, 3, 4] rfl)
        exact L_4 (((S.K i).length + 1 - 0) + 1) 0 (Nat.lt_succ_self _) (Nat.zero_le _) _ _ _ hT hS (lv_sub hl [0, 1, 2, 3] rfl)
      · refine lv_iconst (v := 0) hx hb dX4_diameter_19 (by decide) ?_
        refine lv_goto (tgt := 25) hx hb dX4_diameter_20 (by decide) ?_
        refine zm_topi (y := ((S.K i).take 0).foldl (zdS X b (zdi S X b n)) (if X 2 i = 3 then X 13 i else if b = true then 0 else 2147483647)) (by show _ = (if X 2 i = 3 then X 13 i else if b = true then 0 else 2147483647); rw [if_neg c_1, if_pos c_2]) ?_
        refine lv_istore_n (lv' := [(2, .int (((S.K i).take 0).foldl (zdS X b (zdi S X b n)) (if X 2 i = 3 then X 13 i else if b = true then 0 else 2147483647))), (0, .ref (S.pa i)), (1, .int (zb b))]) hx hb dX4_diameter_25 rfl hl (by decide) rfl (fun ls hl => ?_)
        refine lv_iconst (v := 0) hx hb dX4_diameter_26 (by decide) ?_
        refine lv_istore_n (lv' := [(3, .int 0), (2, .int (((S.K i).take 0).foldl (zdS X b (zdi S X b n)) (if X 2 i = 3 then X 13 i else if b = true then 0 else 2147483647))), (0, .ref (S.pa i)), (1, .int (zb b))]) hx hb dX4_diameter_27 rfl hl (by decide) rfl (fun ls hl => ?_)
        have L_15 : ∀ (n_14 : Nat) (k : Nat), ((S.K i).length + 1 - k) < n_14 → (k ≤ (S.K i).length) → ∀ (H : Heap) (locs : List Loc) (ls : Array Slot), zTH g A T H → va_S A s.heap H locs → lv_has ls 5 [(3, .int (nI k)), (2, .int (((S.K i).take k).foldl (zdS X b (zdi S X b n)) (if X 2 i = 3 then X 13 i else if b = true then 0 else 2147483647))), (0, .ref (S.pa i)), (1, .int (zb b))] → W p l e (zR (n + 1 + 5) 0 0) s m args below meth c H locs 0 0 (MQ below (va_Qi (fun rz_ (_ : Unit) => rz_ = zdi S X b (n + 1) i) (fun (_ : Unit) t => zTH g A T t.heap) A) args s 0 0 A) (F0 m 28 ls []) := by
          intro n_14
          induction n_14 with
          | zero => intro k hm; exact absurd hm (Nat.not_lt_zero _)
          | succ n_14 ih =>
            intro k hm hk H locs ls hT hS hl
            have ih_16 := ih
            refine lv_iload_n hx hb dX4_diameter_28 rfl (lv_at hl 0 rfl) ?_
            refine lv_aload_n hx hb dX4_diameter_29 rfl (lv_at hl 2 rfl) ?_
            refine zt_get hx hb hts in_X4 hown hK.1 hT (hY.p hi) rfl 5 (by decide) (hts _ q392) (fun _ h => h) rfl dX4_diameter_30 ?_
            refine zc_i (zr_V (As := []) (rest := [.int (nI k)]) ⟨hx, hb, hml, hown, hts⟩ (ct_J2_size l g A T _ (S.mu (23 + 4 * i)) _ (hY.k hi)) zn_J2_size (lw_V q560 q226 q227 q43 q228) rfl (by omega) (by decide) hK (fun _ h => h) hS hT (zt_recvL hK.1 hT (hY.k hi)) rfl hl.1 (Nat.le_of_ble_eq_true rfl) dX4_diameter_33 ⟨by show _ + 0 ≤ _; omega, by show _ + 0 ≤ _; omega⟩) hS (fun _ h => h) (fun r _ H locs hr1 hT _ _ hS => ?_)
            subst hr1
            refine zm_topi (y := nI ((S.K i).length)) (by simp) ?_
            refine zl_ge (tgt := 104) (a := k) (b := (S.K i).length) hx hb (by first | decide | omega) (by first | decide | omega) dX4_diameter_36 (by decide) (fun c_17 => ?_) (fun c_17 => ?_)
            · refine lv_iload_n hx hb dX4_diameter_104 rfl (lv_at hl 1 rfl) ?_
              exact ze_i hx hb hr hlocks hS dX4_diameter_105 (by show _ ≤ 0; omega) (by show _ ≤ 0; omega) () (by rw [List.take_of_length_le (by omega)]; rfl) hT
            · refine lv_aload_n hx hb dX4_diameter_39 rfl (lv_at hl 2 rfl) ?_
              refine zt_get hx hb hts in_X4 hown hK.1 hT (hY.p hi) rfl 5 (by decide) (hts _ q392) (fun _ h => h) rfl dX4_diameter_40 ?_
              refine lv_iload_n hx hb dX4_diameter_43 rfl (lv_at hl 0 rfl) ?_
              refine zc_q (zr_V (As := [.int (nI k)]) (rest := []) ⟨hx, hb, hml, hown, hts⟩ (ct_J2_get l g A T _ (S.mu (23 + 4 * i)) _ (hY.k hi) k (by simpa using (show k < (S.K i).length from by omega))) zn_J2_get (lw_V q561 q235 q236 q43 q237) rfl (by omega) (by decide) hK (fun _ h => h) hS hT (zt_recvL hK.1 hT (hY.k hi)) rfl hl.1 (Nat.le_of_ble_eq_true rfl) dX4_diameter_44 ⟨by show _ + 0 ≤ _; omega, by show _ + 0 ≤ _; omega⟩) hS (fun _ h => h) (fun r _ H locs hg_18 hT _ _ hS => ?_)
              obtain ⟨q_19, hq_20, hm_21⟩ : ∃ q, (S.K i)[k]? = some q ∧ q < mN X := ⟨_, List.getElem?_eq_getElem (by omega), (hC _ hi).2 _ (List.getElem_mem _)⟩
              have hg_18r : r = some (S.pa q_19) := by rw [hg_18]; exact Option.some.inj ((List.getElem?_eq_getElem _).symm.trans (by rw [List.getElem?_map, hq_20]; rfl))
              clear hg_18
              subst hg_18r
              refine zm_top (v' := .ref (S.pa q_19)) rfl ?_
              refine va_castS hx hb hown (hts _ q555) (hK.1.1 3 _ rfl).2 (zt_recv hK.1 hT (hY.p hm_21) (r := zCl[3]) rfl) dX4_diameter_47 ?_
              refine lv_iload_n hx hb dX4_diameter_50 rfl (lv_at hl 3 rfl) ?_
              refine zc_i (zr_V (As := [.int (zb b)]) (rest := []) ⟨hx, hb, hml, hown, hts⟩ (IH q_19 hm_21 (by have := hKk _ hi _ (List.mem_of_getElem? hq_20); omega)) zn_X4_diameter (lw_V q718 q719 q720 q54 q721) rfl (by omega) (by decide) hK (fun _ h => h) hS hT (zt_recv hK.1 hT (hY.p hm_21) rfl) rfl hl.1 (Nat.le_of_ble_eq_true rfl) dX4_diameter_51 ⟨by show _ + 0 ≤ _; omega, by show _ + 0 ≤ _; omega⟩) hS (fun _ h => h) (fun r _ H locs hr1 hT _ _ hS => ?_)
              subst hr1
              refine lv_istore (lv' := [(4, .int (zdi S X b n q_19)), (3, .int (nI k)), (2, .int (((S.K i).take k).foldl (zdS X b (zdi S X b n)) (if X 2 i = 3 then X 13 i else if b = true then 0 else 2147483647))), (0, .ref (S.pa i)), (1, .int (zb b))]) hx hb dX4_diameter_54 hl (by decide) rfl (fun ls hl => ?_)
              refine lv_aload_n hx hb dX4_diameter_56 rfl (lv_at hl 3 rfl) ?_
              refine zt_get hx hb hts in_X4 hown hK.1 hT (hY.p hi) rfl 5 (by decide) (hts _ q392) (fun _ h => h) rfl dX4_diameter_57 ?_
              refine lv_iload_n hx hb dX4_diameter_60 rfl (lv_at hl 1 rfl) ?_
              refine zc_q (zr_V (As := [.int (nI k)]) (rest := []) ⟨hx, hb, hml, hown, hts⟩ (ct_J2_get l g A T _ (S.mu (23 + 4 * i)) _ (hY.k hi) k (by simpa using (show k < (S.K i).length from by omega))) zn_J2_get (lw_V q561 q235 q236 q43 q237) rfl (by omega) (by decide) hK (fun _ h => h) hS hT (zt_recvL hK.1 hT (hY.k hi)) rfl hl.1 (Nat.le_of_ble_eq_true rfl) dX4_diameter_61 ⟨by show _ + 0 ≤ _; omega, by show _ + 0 ≤ _; omega⟩) hS (fun _ h => h) (fun r _ H locs hg_22 hT _ _ hS => ?_)
              have hg_22r : r = some (S.pa q_19) := by rw [hg_22]; exact Option.some.inj ((List.getElem?_eq_getElem _).symm.trans (by rw [List.getElem?_map, hq_20]; rfl))
              clear hg_22
              subst hg_22r
              refine zm_top (v' := .ref (S.pa q_19)) rfl ?_
              refine va_castS hx hb hown (hts _ q555) (hK.1.1 3 _ rfl).2 (zt_recv hK.1 hT (hY.p hm_21) (r := zCl[3]) rfl) dX4_diameter_64 ?_
              refine zt_get hx hb hts in_X4 hown hK.1 hT (hY.p hm_21) rfl 1 (by decide) (hts _ q384) (fun _ h => h) rfl dX4_diameter_67 ?_
              refine lv_iconst (v := 4) hx hb dX4_diameter_70 (by decide) ?_
              refine lv_icmp_ne (tgt := 78) hx hb dX4_diameter_71 (by decide) (fun c_23 => ?_) (fun c_23 => ?_)
              · refine lv_iload_n hx hb dX4_diameter_78 rfl (lv_at hl 4 rfl) ?_
                refine zl_ifeq (tgt := 91) hx hb dX4_diameter_79 (by decide) (fun c_24 => by rw [c_2] at c_24; cases c_24) (fun _ => ?_)
                refine lv_iload_n hx hb dX4_diameter_82 rfl (lv_at hl 2 rfl) ?_
                refine lv_iload hx hb dX4_diameter_83 (lv_at hl 0 rfl) ?_
                refine va_mmax hx hb (by rw [hml]; exact hl.1.symm) hown (hts _ q723) (hts _ q135) (hts _ q45) (hts _ q136) (Nat.le_of_ble_eq_true rfl) (Nat.le_of_ble_eq_true rfl) (by show _ ≤ 0; omega) (by show _ ≤ 0; omega) dX4_diameter_85 ?_
                refine lv_goto (tgt := 97) hx hb dX4_diameter_88 (by decide) ?_
                refine zm_topi (y := ((S.K i).take (k + 1)).foldl (zdS X b (zdi S X b n)) (if X 2 i = 3 then X 13 i else if b = true then 0 else 2147483647)) (by rw [zft hq_20]; exact (zdS_t c_23 c_2).symm) ?_
                refine lv_istore_n (lv' := [(2, .int (((S.K i).take (k + 1)).foldl (zdS X b (zdi S X b n)) (if X 2 i = 3 then X 13 i else if b = true then 0 else 2147483647))), (4, .int (zdi S X b n q_19)), (3, .int (nI k)), (0, .ref (S.pa i)), (1, .int (zb b))]) hx hb dX4_diameter_97 rfl hl (by decide) rfl (fun ls hl => ?_)
                refine lv_iinc (v := nI (k + 1)) (lv' := [(3, .int (nI (k + 1))), (2, .int (((S.K i).take (k + 1)).foldl (zdS X b (zdi S X b n)) (if X 2 i = 3 then X 13 i else if b = true then 0 else 2147483647))), (4, .int (zdi S X b n q_19)), (0, .ref (S.pa i)), (1, .int (zb b))]) hx hb dX4_diameter_98 hl (k := 2) rfl (nI_1 k) (by decide) rfl (fun ls hl => ?_)
                refine lv_goto (tgt := 28) hx hb dX4_diameter_101 (by decide) ?_
                exact ih_16 (k + 1) (by omega) (by omega) _ _ _ hT hS (lv_sub hl [0, 1, 3, 4] rfl)
              · refine lv_iload_n hx hb dX4_diameter_74 rfl (lv_at hl 2 rfl) ?_
                refine lv_goto (tgt := 97) hx hb dX4_diameter_75 (by decide) ?_
                refine zm_topi (y := ((S.K i).take (k + 1)).foldl (zdS X b (zdi S X b n)) (if X 2 i = 3 then X 13 i else if b = true then 0 else 2147483647)) (by rw [zft hq_20]; exact (zdS_m c_23).symm) ?_
                refine lv_istore_n (lv' := [(2, .int (((S.K i).take (k + 1)).foldl (zdS X b (zdi S X b n)) (if X 2 i = 3 then X 13 i else if b = true then 0 else 2147483647))), (4, .int (zdi S X b n q_19)), (3, .int (nI k)), (0, .ref (S.pa i)), (1, .int (zb b))]) hx hb dX4_diameter_97 rfl hl (by decide) rfl (fun ls hl => ?_)
                refine lv_iinc (v := nI (k + 1)) (lv' := [(3, .int (nI (k + 1))), (2, .int (((S.K i).take (k + 1)).foldl (zdS X b (zdi S X b n)) (if X 2 i = 3 then X 13 i else if b = true then 0 else 2147483647))), (4, .int (zdi S X b n q_19)), (0, .ref (S.pa i)), (1, .int (zb b))]) hx hb dX4_diameter_98 hl (k := 2) rfl (nI_1 k) (by decide) rfl (fun ls hl => ?_)
                refine lv_goto (tgt := 28) hx hb dX4_diameter_101 (by decide) ?_
                exact ih_16 (k + 1) (by omega) (by omega) _ _ _ hT hS (lv_sub hl [0, 1, 3, 4] rfl)
        exact L_15 (((S.K i).length + 1 - 0) + 1) 0 (Nat.lt_succ_self _) (Nat.zero_le _) _ _ _ hT hS (lv_sub hl [0, 1, 2, 3] rfl)
    · refine lv_aload_n hx hb dX4_diameter_8 rfl (lv_at hl 0 rfl) ?_
      refine zt_get hx hb hts in_X4 hown hK.1 hT (hY.p hi) rfl 14 (by decide) (hts _ q409) (fun _ h => h) rfl dX4_diameter_9 ?_
      refine lv_goto (tgt := 25) hx hb dX4_diameter_12 (by decide) ?_
      refine zm_topi (y := ((S.K i).take 0).foldl (zdS X b (zdi S X b n)) (if X 2 i = 3 then X 13 i else if b = true then 0 else 2147483647)) (by show _ = (if X 2 i = 3 then X 13 i else if b = true then 0 else 2147483647); rw [if_pos c_1]) ?_
      refine lv_istore_n (lv' := [(2, .int (((S.K i).take 0).foldl (zdS X b (zdi S X b n)) (if X 2 i = 3 then X 13 i else if b = true then 0 else 2147483647))), (0, .ref (S.pa i)), (1, .int (zb b))]) hx hb dX4_diameter_25 rfl hl (by decide) rfl (fun ls hl => ?_)
      refine lv_iconst (v := 0) hx hb dX4_diameter_26 (by decide) ?_
      refine lv_istore_n (lv' := [(3, .int 0), (2, .int (((S.K i).take 0).foldl (zdS X b (zdi S X b n)) (if X 2 i = 3 then X 13 i else if b = true then 0 else 2147483647))), (0, .ref (S.pa i)), (1, .int (zb b))]) hx hb dX4_diameter_27 rfl hl (by decide) rfl (fun ls hl => ?_)
      have L_26 : ∀ (n_25 : Nat) (k : Nat), ((S.K i).length + 1 - k) < n_25 → (k ≤ (S.K i).length) → ∀ (H : Heap) (locs : List Loc) (ls : Array Slot), zTH g A T H → va_S A s.heap H locs → lv_has ls 5 [(3, .int (nI k)), (2, .int (((S.K i).take k).foldl (zdS X b (zdi S X b n)) (if X 2 i = 3 then X 13 i else if b = true then 0 else 2147483647))), (0, .ref (S.pa i)), (1, .int (zb b))] → W p l e (zR (n + 1 + 5) 0 0) s m args below meth c H locs 0 0 (MQ below (va_Qi (fun rz_ (_ : Unit) => rz_ = zdi S X b (n + 1) i) (fun (_ : Unit) t => zTH g A T t.heap) A) args s 0 0 A) (F0 m 28 ls []) := by
        intro n_25
        induction n_25 with
        | zero => intro k hm; exact absurd hm (Nat.not_lt_zero _)
        | succ n_25 ih =>
          intro k hm hk H locs ls hT hS hl
          have ih_27 := ih
          refine lv_iload_n hx hb dX4_diameter_28 rfl (lv_at hl 0 rfl) ?_
          refine lv_aload_n hx hb dX4_diameter_29 rfl (lv_at hl 2 rfl) ?_
          refine zt_get hx hb hts in_X4 hown hK.1 hT (hY.p hi) rfl 5 (by decide) (hts _ q392) (fun _ h => h) rfl dX4_diameter_30 ?_
          refine zc_i (zr_V (As := []) (rest := [.int (nI k)]) ⟨hx, hb, hml, hown, hts⟩ (ct_J2_size l g A T _ (S.mu (23 + 4 * i)) _ (hY.k hi)) zn_J2_size (lw_V q560 q226 q227 q43 q228) rfl (by omega) (by decide) hK (fun _ h => h) hS hT (zt_recvL hK.1 hT (hY.k hi)) rfl hl.1 (Nat.le_of_ble_eq_true rfl) dX4_diameter_33 ⟨by show _ + 0 ≤ _; omega, by show _ + 0 ≤ _; omega⟩) hS (fun _ h => h) (fun r _ H locs hr1 hT _ _ hS => ?_)
          subst hr1
          refine zm_topi (y := nI ((S.K i).length)) (by simp) ?_
          refine zl_ge (tgt := 104) (a := k) (b := (S.K i).length) hx hb (by first | decide | omega) (by first | decide | omega) dX4_diameter_36 (by decide) (fun c_28 => ?_) (fun c_28 => ?_)
          · refine lv_iload_n hx hb dX4_diameter_104 rfl (lv_at hl 1 rfl) ?_
            exact ze_i hx hb hr hlocks hS dX4_diameter_105 (by show _ ≤ 0; omega) (by show _ ≤ 0; omega) () (by rw [List.take_of_length_le (by omega)]; rfl) hT
          · refine lv_aload_n hx hb dX4_diameter_39 rfl (lv_at hl 2 rfl) ?_
            refine zt_get hx hb hts in_X4 hown hK.1 hT (hY.p hi) rfl 5 (by decide) (hts _ q392) (fun _ h => h) rfl dX4_diameter_40 ?_
            refine lv_iload_n hx hb dX4_diameter_43 rfl (lv_at hl 0 rfl) ?_
            refine zc_q (zr_V (As := [.int (nI k)]) (rest := []) ⟨hx, hb, hml, hown, hts⟩ (ct_J2_get l g A T _ (S.mu (23 + 4 * i)) _ (hY.k hi) k (by simpa using (show k < (S.K i).length from by omega))) zn_J2_get (lw_V q561 q235 q236 q43 q237) rfl (by omega) (by decide) hK (fun _ h => h) hS hT (zt_recvL hK.1 hT (hY.k hi)) rfl hl.1 (Nat.le_of_ble_eq_true rfl) dX4_diameter_44 ⟨by show _ + 0 ≤ _; omega, by show _ + 0 ≤ _; omega⟩) hS (fun _ h => h) (fun r _ H locs hg_29 hT _ _ hS => ?_)
            obtain ⟨q_30, hq_31, hm_32⟩ : ∃ q, (S.K i)[k]? = some q ∧ q < mN X := ⟨_, List.getElem?_eq_getElem (by omega), (hC _ hi).2 _ (List.getElem_mem _)⟩
            have hg_29r : r = some (S.pa q_30) := by rw [hg_29]; exact Option.some.inj ((List.getElem?_eq_getElem _).symm.trans (by rw [List.getElem?_map, hq_31]; rfl))
            clear hg_29
            subst hg_29r
            refine zm_top (v' := .ref (S.pa q_30)) rfl ?_
            refine va_castS hx hb hown (hts _ q555) (hK.1.1 3 _ rfl).2 (zt_recv hK.1 hT (hY.p hm_32) (r := zCl[3]) rfl) dX4_diameter_47 ?_
            refine lv_iload_n hx hb dX4_diameter_50 rfl (lv_at hl 3 rfl) ?_
            refine zc_i (zr_V (As := [.int (zb b)]) (rest := []) ⟨hx, hb, hml, hown, hts⟩ (IH q_30 hm_32 (by have := hKk _ hi _ (List.mem_of_getElem? hq_31); omega)) zn_X4_diameter (lw_V q718 q719 q720 q54 q721) rfl (by omega) (by decide) hK (fun _ h => h) hS hT (zt_recv hK.1 hT (hY.p hm_32) rfl) rfl hl.1 (Nat.le_of_ble_eq_true rfl) dX4_diameter_51 ⟨by show _ + 0 ≤ _; omega, by show _ + 0 ≤ _; omega⟩) hS (fun _ h => h) (fun r _ H locs hr1 hT _ _ hS => ?_)
            subst hr1
            refine lv_istore (lv' := [(4, .int (zdi S X b n q_30)), (3, .int (nI k)), (2, .int (((S.K i).take k).foldl (zdS X b (zdi S X b n)) (if X 2 i = 3 then X 13 i else if b = true then 0 else 2147483647))), (0, .ref (S.pa i)), (1, .int (zb b))]) hx hb dX4_diameter_54 hl (by decide) rfl (fun ls hl => ?_)
            refine lv_aload_n hx hb dX4_diameter_56 rfl (lv_at hl 3 rfl) ?_
            refine zt_get hx hb hts in_X4 hown hK.1 hT (hY.p hi) rfl 5 (by decide) (hts _ q392) (fun _ h => h) rfl dX4_diameter_57 ?_
            refine lv_iload_n hx hb dX4_diameter_60 rfl (lv_at hl 1 rfl) ?_
            refine zc_q (zr_V (As := [.int (nI k)]) (rest := []) ⟨hx, hb, hml, hown, hts⟩ (ct_J2_get l g A T _ (S.mu (23 + 4 * i)) _ (hY.k hi) k (by simpa using (show k < (S.K i).length from by omega))) zn_J2_get (lw_V q561 q235 q236 q43 q237) rfl (by omega) (by decide) hK (fun _ h => h) hS hT (zt_recvL hK.1 hT (hY.k hi)) rfl hl.1 (Nat.le_of_ble_eq_true rfl) dX4_diameter_61 ⟨by show _ + 0 ≤ _; omega, by show _ + 0 ≤ _; omega⟩) hS (fun _ h => h) (fun r _ H locs hg_33 hT _ _ hS => ?_)
            have hg_33r : r = some (S.pa q_30) := by rw [hg_33]; exact Option.some.inj ((List.getElem?_eq_getElem _).symm.trans (by rw [List.getElem?_map, hq_31]; rfl))
            clear hg_33
            subst hg_33r
            refine zm_top (v' := .ref (S.pa q_30)) rfl ?_
            refine va_castS hx hb hown (hts _ q555) (hK.1.1 3 _ rfl).2 (zt_recv hK.1 hT (hY.p hm_32) (r := zCl[3]) rfl) dX4_diameter_64 ?_
            refine zt_get hx hb hts in_X4 hown hK.1 hT (hY.p hm_32) rfl 1 (by decide) (hts _ q384) (fun _ h => h) rfl dX4_diameter_67 ?_
            refine lv_iconst (v := 4) hx hb dX4_diameter_70 (by decide) ?_
            refine lv_icmp_ne (tgt := 78) hx hb dX4_diameter_71 (by decide) (fun c_34 => ?_) (fun c_34 => ?_)
            · refine lv_iload_n hx hb dX4_diameter_78 rfl (lv_at hl 4 rfl) ?_
              refine zl_ifeq (tgt := 91) hx hb dX4_diameter_79 (by decide) (fun c_35 => ?_) (fun c_35 => ?_)
              · refine lv_iload_n hx hb dX4_diameter_91 rfl (lv_at hl 2 rfl) ?_
                refine lv_iload hx hb dX4_diameter_92 (lv_at hl 0 rfl) ?_
                refine va_mmin hx hb (by rw [hml]; exact hl.1.symm) hown (hts _ q724) (hts _ q170) (hts _ q45) (hts _ q171) (Nat.le_of_ble_eq_true rfl) (Nat.le_of_ble_eq_true rfl) (by show _ ≤ 0; omega) (by show _ ≤ 0; omega) dX4_diameter_94 ?_
                refine zm_topi (y := ((S.K i).take (k + 1)).foldl (zdS X b (zdi S X b n)) (if X 2 i = 3 then X 13 i else if b = true then 0 else 2147483647)) (by rw [zft hq_31]; exact (zdS_f c_34 c_35).symm) ?_
                refine lv_istore_n (lv' := [(2, .int (((S.K i).take (k + 1)).foldl (zdS X b (zdi S X b n)) (if X 2 i = 3 then X 13 i else if b = true then 0 else 2147483647))), (4, .int (zdi S X b n q_30)), (3, .int (nI k)), (0, .ref (S.pa i)), (1, .int (zb b))]) hx hb dX4_diameter_97 rfl hl (by decide) rfl (fun ls hl => ?_)
                refine lv_iinc (v := nI (k + 1)) (lv' := [(3, .int (nI (k + 1))), (2, .int (((S.K i).take (k + 1)).foldl (zdS X b (zdi S X b n)) (if X 2 i = 3 then X 13 i else if b = true then 0 else 2147483647))), (4, .int (zdi S X b n q_30)), (0, .ref (S.pa i)), (1, .int (zb b))]) hx hb dX4_diameter_98 hl (k := 2) rfl (nI_1 k) (by decide) rfl (fun ls hl => ?_)
                refine lv_goto (tgt := 28) hx hb dX4_diameter_101 (by decide) ?_
                exact ih_27 (k + 1) (by omega) (by omega) _ _ _ hT hS (lv_sub hl [0, 1, 3, 4] rfl)
              · refine lv_iload_n hx hb dX4_diameter_82 rfl (lv_at hl 2 rfl) ?_
                refine lv_iload hx hb dX4_diameter_83 (lv_at hl 0 rfl) ?_
                refine va_mmax hx hb (by rw [hml]; exact hl.1.symm) hown (hts _ q723) (hts _ q135) (hts _ q45) (hts _ q136) (Nat.le_of_ble_eq_true rfl) (Nat.le_of_ble_eq_true rfl) (by show _ ≤ 0; omega) (by show _ ≤ 0; omega) dX4_diameter_85 ?_
                refine lv_goto (tgt := 97) hx hb dX4_diameter_88 (by decide) ?_
                refine zm_topi (y := ((S.K i).take (k + 1)).foldl (zdS X b (zdi S X b n)) (if X 2 i = 3 then X 13 i else if b = true then 0 else 2147483647)) (by rw [zft hq_31]; exact (zdS_t c_34 c_35).symm) ?_
                refine lv_istore_n (lv' := [(2, .int (((S.K i).take (k + 1)).foldl (zdS X b (zdi S X b n)) (if X 2 i = 3 then X 13 i else if b = true then 0 else 2147483647))), (4, .int (zdi S X b n q_30)), (3, .int (nI k)), (0, .ref (S.pa i)), (1, .int (zb b))]) hx hb dX4_diameter_97 rfl hl (by decide) rfl (fun ls hl => ?_)
                refine lv_iinc (v := nI (k + 1)) (lv' := [(3, .int (nI (k + 1))), (2, .int (((S.K i).take (k + 1)).foldl (zdS X b (zdi S X b n)) (if X 2 i = 3 then X 13 i else if b = true then 0 else 2147483647))), (4, .int (zdi S X b n q_30)), (0, .ref (S.pa i)), (1, .int (zb b))]) hx hb dX4_diameter_98 hl (k := 2) rfl (nI_1 k) (by decide) rfl (fun ls hl => ?_)
                refine lv_goto (tgt := 28) hx hb dX4_diameter_101 (by decide) ?_
                exact ih_27 (k + 1) (by omega) (by omega) _ _ _ hT hS (lv_sub hl [0, 1, 3, 4] rfl)
            · refine lv_iload_n hx hb dX4_diameter_74 rfl (lv_at hl 2 rfl) ?_
              refine lv_goto (tgt := 97) hx hb dX4_diameter_75 (by decide) ?_
              refine zm_topi (y := ((S.K i).take (k + 1)).foldl (zdS X b (zdi S X b n)) (if X 2 i = 3 then X 13 i else if b = true then 0 else 2147483647)) (by rw [zft hq_31]; exact (zdS_m c_34).symm) ?_
              refine lv_istore_n (lv' := [(2, .int (((S.K i).take (k + 1)).foldl (zdS X b (zdi S X b n)) (if X 2 i = 3 then X 13 i else if b = true then 0 else 2147483647))), (4, .int (zdi S X b n q_30)), (3, .int (nI k)), (0, .ref (S.pa i)), (1, .int (zb b))]) hx hb dX4_diameter_97 rfl hl (by decide) rfl (fun ls hl => ?_)
              refine lv_iinc (v := nI (k + 1)) (lv' := [(3, .int (nI (k + 1))), (2, .int (((S.K i).take (k + 1)).foldl (zdS X b (zdi S X b n)) (if X 2 i = 3 then X 13 i else if b = true then 0 else 2147483647))), (4, .int (zdi S X b n q_30)), (0, .ref (S.pa i)), (1, .int (zb b))]) hx hb dX4_diameter_98 hl (k := 2) rfl (nI_1 k) (by decide) rfl (fun ls hl => ?_)
              refine lv_goto (tgt := 28) hx hb dX4_diameter_101 (by decide) ?_
              exact ih_27 (k + 1) (by omega) (by omega) _ _ _ hT hS (lv_sub hl [0, 1, 3, 4] rfl)
      exact L_26 (((S.K i).length + 1 - 0) + 1) 0 (Nat.lt_succ_self _) (Nat.zero_le _) _ _ _ hT hS (lv_sub hl [0, 1, 2, 3] rfl)
theorem zn_X4_isUnlike : zN yX4_isUnlike 0 := by decide +kernel
set_option maxHeartbeats 4000000 in
theorem ct_X4_isUnlike (l : Launch) (g : zG) (A : Nat → Prop) (S : zS) (X : zX) (T : zT) (hY : zSy S g X T) (hI : MH X) (hC : zKo S X) (hKk : zKk S X) (i : Nat) (hi : i < mN X) : Met l yX4_isUnlike (ws_ yX4_isUnlike cX4_isUnlike 2 (some .boolean)) (zR 11 0 0) (zP [.ref (S.pa i)] g A (zTH g A T)) (va_Qi (fun rz_ (_ : Unit) => rz_ = zb (zUn S X i)) (fun (_ : Unit) t => zTH g A T t.heap) A) 0 0 A := by
  refine zb_met (by decide) (Nat.le_of_ble_eq_true rfl) ?_
  intro p e s m args below meth c ls hx hb hr hml hown hts hlocks hnm hK hT ha_ hl
  have hown : s.vm.findClass RX4 = some m.cls := hown
  have hS : va_S A s.heap s.heap [] := va_S.rf
  have hl : lv_has ls 2 [(0, .ref (S.pa i))] := hl
  refine lv_aload_n hx hb dX4_isUnlike_0 rfl (lv_at hl 0 rfl) ?_
  refine zt_get hx hb hts in_X4 hown hK.1 hT (hY.p hi) rfl 1 (by decide) (hts _ q384) (fun _ h => h) rfl dX4_isUnlike_1 ?_
  refine lv_iconst (v := 2) hx hb dX4_isUnlike_4 (by decide) ?_
  refine lv_icmp_ne (tgt := 13) hx hb dX4_isUnlike_5 (by decide) (fun c_1 => ?_) (fun c_1 => ?_)
  · refine lv_aload_n hx hb dX4_isUnlike_13 rfl (lv_at hl 0 rfl) ?_
    refine zt_get hx hb hts in_X4 hown hK.1 hT (hY.p hi) rfl 1 (by decide) (hts _ q384) (fun _ h => h) rfl dX4_isUnlike_14 ?_
    refine lv_iconst (v := 1) hx hb dX4_isUnlike_17 (by decide) ?_
    refine lv_icmp_ne (tgt := 26) hx hb dX4_isUnlike_18 (by decide) (fun c_2 => ?_) (fun c_2 => ?_)
    · refine lv_ldc (v := 99999) hx hb hown (hts _ q717) dX4_isUnlike_26 ?_
      refine lv_istore_n (lv' := [(1, .int 99999), (0, .ref (S.pa i))]) hx hb dX4_isUnlike_28 rfl hl (by decide) rfl (fun ls hl => ?_)
      refine lv_aload_n hx hb dX4_isUnlike_29 rfl (lv_at hl 1 rfl) ?_
      refine lv_iconst (v := 1) hx hb dX4_isUnlike_30 (by decide) ?_
      refine zc_i (zr_V (As := [.int 1]) (rest := []) ⟨hx, hb, hml, hown, hts⟩ (ct_X4_diameter l g A S X _ hY hI hC hKk true 5 i hi (by omega)) zn_X4_diameter (lw_V q718 q719 q720 q54 q721) rfl (by decide) (by decide) hK (fun _ h => h) hS hT (zt_recv hK.1 hT (hY.p hi) rfl) rfl hl.1 (Nat.le_of_ble_eq_true rfl) dX4_isUnlike_31 ⟨by show _ + 0 ≤ _; omega, by show _ + 0 ≤ _; omega⟩) hS (fun _ h => h) (fun r _ H locs hr_3 hT _ _ hS => ?_)
      subst hr_3
      refine lv_aload_n hx hb dX4_isUnlike_34 rfl (lv_at hl 1 rfl) ?_
      refine lv_iconst (v := 0) hx hb dX4_isUnlike_35 (by decide) ?_
      refine zc_i (zr_V (As := [.int 0]) (rest := [.int (zdi S X true 5 i)]) ⟨hx, hb, hml, hown, hts⟩ (ct_X4_diameter l g A S X _ hY hI hC hKk false 5 i hi (by omega)) zn_X4_diameter (lw_V q718 q719 q720 q54 q721) rfl (by decide) (by decide) hK (fun _ h => h) hS hT (zt_recv hK.1 hT (hY.p hi) rfl) rfl hl.1 (Nat.le_of_ble_eq_true rfl) dX4_isUnlike_36 ⟨by show _ + 0 ≤ _; omega, by show _ + 0 ≤ _; omega⟩) hS (fun _ h => h) (fun r _ H locs hr_4 hT _ _ hS => ?_)
      subst hr_4
      refine lv_isub hx hb dX4_isUnlike_39 ?_
      refine lv_iload_n hx hb dX4_isUnlike_40 rfl (lv_at hl 0 rfl) ?_
      refine lv_icmp_le (tgt := 48) hx hb dX4_isUnlike_41 (by decide) (fun c_5 => ?_) (fun c_5 => ?_)
      · refine lv_iconst (v := 0) hx hb dX4_isUnlike_48 (by decide) ?_
        exact ze_z hx hb hr hlocks hS dX4_isUnlike_49 (Nat.zero_le _) (Nat.zero_le _) (Or.inl rfl) () (by unfold zUn; rw [if_neg c_1, if_neg c_2]; exact (zb_f (decide_eq_false (Int32.not_lt.mpr c_5))).symm) hT
      · refine lv_iconst (v := 1) hx hb dX4_isUnlike_44 (by decide) ?_
        refine lv_goto (tgt := 49) hx hb dX4_isUnlike_45 (by decide) ?_
        exact ze_z hx hb hr hlocks hS dX4_isUnlike_49 (Nat.zero_le _) (Nat.zero_le _) (Or.inr rfl) () (by unfold zUn; rw [if_neg c_1, if_neg c_2]; exact (zb_t (decide_eq_true (Int32.not_le.mp c_5))).symm) hT
    · refine lv_bipush (v := 60) hx hb dX4_isUnlike_21 (by decide) ?_
      refine lv_goto (tgt := 28) hx hb dX4_isUnlike_23 (by decide) ?_
      refine lv_istore_n (lv' := [(1, .int 60), (0, .ref (S.pa i))]) hx hb dX4_isUnlike_28 rfl hl (by decide) rfl (fun ls hl => ?_)
      refine lv_aload_n hx hb dX4_isUnlike_29 rfl (lv_at hl 1 rfl) ?_
      refine lv_iconst (v := 1) hx hb dX4_isUnlike_30 (by decide) ?_
      refine zc_i (zr_V (As := [.int 1]) (rest := []) ⟨hx, hb, hml, hown, hts⟩ (ct_X4_diameter l g A S X _ hY hI hC hKk true 5 i hi (by omega)) zn_X4_diameter (lw_V q718 q719 q720 q54 q721) rfl (by decide) (by decide) hK (fun _ h => h) hS hT (zt_recv hK.1 hT (hY.p hi) rfl) rfl hl.1 (Nat.le_of_ble_eq_true rfl) dX4_isUnlike_31 ⟨by show _ + 0 ≤ _; omega, by show _ + 0 ≤ _; omega⟩) hS (fun _ h => h) (fun r _ H locs hr_6 hT _ _ hS => ?_)
      subst hr_6
      refine lv_aload_n hx hb dX4_isUnlike_34 rfl (lv_at hl 1 rfl) ?_
      refine lv_iconst (v := 0) hx hb dX4_isUnlike_35 (by decide) ?_
      refine zc_i (zr_V (As := [.int 0]) (rest := [.int (zdi S X true 5 i)]) ⟨hx, hb, hml, hown, hts⟩ (ct_X4_diameter l g A S X _ hY hI hC hKk false 5 i hi (by omega)) zn_X4_diameter (lw_V q718 q719 q720 q54 q721) rfl (by decide) (by decide) hK (fun _ h => h) hS hT (zt_recv hK.1 hT (hY.p hi) rfl) rfl hl.1 (Nat.le_of_ble_eq_true rfl) dX4_isUnlike_36 ⟨by show _ + 0 ≤ _; omega, by show _ + 0 ≤ _; omega⟩) hS (fun _ h => h) (fun r _ H locs hr_7 hT _ _ hS => ?_)
      subst hr_7
      refine lv_isub hx hb dX4_isUnlike_39 ?_
      refine lv_iload_n hx hb dX4_isUnlike_40 rfl (lv_at hl 0 rfl) ?_
      refine lv_icmp_le (tgt := 48) hx hb dX4_isUnlike_41 (by decide) (fun c_8 => ?_) (fun c_8 => ?_)
      · refine lv_iconst (v := 0) hx hb dX4_isUnlike_48 (by decide) ?_
        exact ze_z hx hb hr hlocks hS dX4_isUnlike_49 (Nat.zero_le _) (Nat.zero_le _) (Or.inl rfl) () (by unfold zUn; rw [if_neg c_1, if_pos c_2]; exact (zb_f (decide_eq_false (Int32.not_lt.mpr c_8))).symm) hT
      · refine lv_iconst (v := 1) hx hb dX4_isUnlike_44 (by decide) ?_
        refine lv_goto (tgt := 49) hx hb dX4_isUnlike_45 (by decide) ?_
        exact ze_z hx hb hr hlocks hS dX4_isUnlike_49 (Nat.zero_le _) (Nat.zero_le _) (Or.inr rfl) () (by unfold zUn; rw [if_neg c_1, if_pos c_2]; exact (zb_t (decide_eq_true (Int32.not_le.mp c_8))).symm) hT
  · refine lv_bipush (v := 20) hx hb dX4_isUnlike_8 (by decide) ?_
    refine lv_goto (tgt := 28) hx hb dX4_isUnlike_10 (by decide) ?_
    refine lv_istore_n (lv' := [(1, .int 20), (0, .ref (S.pa i))]) hx hb dX4_isUnlike_28 rfl hl (by decide) rfl (fun ls hl => ?_)
    refine lv_aload_n hx hb dX4_isUnlike_29 rfl (lv_at hl 1 rfl) ?_
    refine lv_iconst (v := 1) hx hb dX4_isUnlike_30 (by decide) ?_
    refine zc_i (zr_V (As := [.int 1]) (rest := []) ⟨hx, hb, hml, hown, hts⟩ (ct_X4_diameter l g A S X _ hY hI hC hKk true 5 i hi (by omega)) zn_X4_diameter (lw_V q718 q719 q720 q54 q721) rfl (by decide) (by decide) hK (fun _ h => h) hS hT (zt_recv hK.1 hT (hY.p hi) rfl) rfl hl.1 (Nat.le_of_ble_eq_true rfl) dX4_isUnlike_31 ⟨by show _ + 0 ≤ _; omega, by show _ + 0 ≤ _; omega⟩) hS (fun _ h => h) (fun r _ H locs hr_9 hT _ _ hS => ?_)
    subst hr_9
    refine lv_aload_n hx hb dX4_isUnlike_34 rfl (lv_at hl 1 rfl) ?_
    refine lv_iconst (v := 0) hx hb dX4_isUnlike_35 (by decide) ?_
    refine zc_i (zr_V (As := [.int 0]) (rest := [.int (zdi S X true 5 i)]) ⟨hx, hb, hml, hown, hts⟩ (ct_X4_diameter l g A S X _ hY hI hC hKk false 5 i hi (by omega)) zn_X4_diameter (lw_V q718 q719 q720 q54 q721) rfl (by decide) (by decide) hK (fun _ h => h) hS hT (zt_recv hK.1 hT (hY.p hi) rfl) rfl hl.1 (Nat.le_of_ble_eq_true rfl) dX4_isUnlike_36 ⟨by show _ + 0 ≤ _; omega, by show _ + 0 ≤ _; omega⟩) hS (fun _ h => h) (fun r _ H locs hr_10 hT _ _ hS => ?_)
    subst hr_10
    refine lv_isub hx hb dX4_isUnlike_39 ?_
    refine lv_iload_n hx hb dX4_isUnlike_40 rfl (lv_at hl 0 rfl) ?_
    refine lv_icmp_le (tgt := 48) hx hb dX4_isUnlike_41 (by decide) (fun c_11 => ?_) (fun c_11 => ?_)
    · refine lv_iconst (v := 0) hx hb dX4_isUnlike_48 (by decide) ?_
      exact ze_z hx hb hr hlocks hS dX4_isUnlike_49 (Nat.zero_le _) (Nat.zero_le _) (Or.inl rfl) () (by unfold zUn; rw [if_pos c_1]; exact (zb_f (decide_eq_false (Int32.not_lt.mpr c_11))).symm) hT
    · refine lv_iconst (v := 1) hx hb dX4_isUnlike_44 (by decide) ?_
      refine lv_goto (tgt := 49) hx hb dX4_isUnlike_45 (by decide) ?_
      exact ze_z hx hb hr hlocks hS dX4_isUnlike_49 (Nat.zero_le _) (Nat.zero_le _) (Or.inr rfl) () (by unfold zUn; rw [if_pos c_1]; exact (zb_t (decide_eq_true (Int32.not_le.mp c_11))).symm) hT
