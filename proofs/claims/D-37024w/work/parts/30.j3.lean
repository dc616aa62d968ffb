theorem zn_J2_add : zN yJ2_add 1 := by decide +kernel
set_option maxHeartbeats 4000000 in
theorem ct_J2_add (l : Launch) (g : zG) (A : Nat → Prop) (T : zT) (a : Nat) (mu : Int32) (xs : List (Option Nat)) (ha : T a = some (.inr (mu, xs))) (x : Option Nat) (hn1 : xs.length ≤ 100) (hel : ∀ y ∈ xs, zEl T y) (hx_ : zEl T x) : Met l yJ2_add (ws_ yJ2_add cJ2_add 2 (some .boolean)) (zR 7 1 160) (zP [.ref a, va_rf x] g A (zTH g A T)) (va_Qi (fun rz_ (_ : Unit) => rz_ = 1) (fun (_ : Unit) t => zTH g A (va_up T a (some (.inr (mu + 1, xs ++ [x])))) t.heap) A) 1 160 A := by
  refine zb_met (by decide) (by cases x <;> exact Nat.le_of_ble_eq_true rfl) ?_
  intro p e s m args below meth c ls hx hb hr hml hown hts hlocks hnm hK hT ha_ hl
  have hown : s.vm.findClass RJ2 = some m.cls := hown
  have hS : va_S A s.heap s.heap [] := va_S.rf
  have hl : lv_has ls 2 [(0, .ref a), (1, va_rf x)] := by cases x <;> exact hl
  obtain ⟨M, bk, hM, hTM⟩ := hT
  obtain ⟨hL, cap, f, hL2, hlen, hcap, hcap0, hf⟩ := hTM.2.1 _ _ _ ha
  have hMs := hM
  refine lv_aload_n hx hb dJ2_add_0 rfl (lv_at hl 0 rfl) ?_
  refine lv_dup hx hb dJ2_add_1 rfl ?_
  refine zm_get hx hb hts in_J2 hown hK.1 hM hL rfl 0 (by decide) (hts _ q101) (u_same (hts _ q100)) rfl dJ2_add_2 ?_
  refine lv_iconst (v := 1) hx hb dJ2_add_5 (by decide) ?_
  refine lv_iadd hx hb dJ2_add_6 ?_
  refine zm_put hx hb hts in_J2 tyJ2 tyJ2_ok nmJ2 hown hK.1 hM hS hL rfl 0 (by decide) (hts _ q101) (u_same (hts _ q100)) rfl (v := .int (mu + 1)) (tyJ2_ok 0 (by decide)) rfl rfl (show 0 < 3 from by decide) dJ2_add_7 (fun H locs hM hS => ?_)
  obtain ⟨M_1, eM_1⟩ : ∃ M0, M0 = va_up M a (some (zo 9 [.int (mu + 1), .ref (bk a), .int (nI xs.length)])) := ⟨_, rfl⟩
  have hM : zMH g A M_1 H := by rw [eM_1]; exact hM
  have h_2 : M_1 a = some (zo 9 [.int (mu + 1), .ref (bk a), .int (nI xs.length)]) := by rw [eM_1]; exact va_up_self _ _ _
  have h_3 : M_1 (bk a) = some (zQ g cap f) := by rw [eM_1]; exact (va_up_ne _ _ (fun z => by have z1 := hL2; rw [z, hL] at z1; cases z1)).trans hL2
  refine lv_aload_n hx hb dJ2_add_10 rfl (lv_at hl 0 rfl) ?_
  refine lv_aload_nO hx hb dJ2_add_11 rfl (lv_at hl 1 rfl) ?_
  refine lv_aload_n hx hb dJ2_add_12 rfl (lv_at hl 0 rfl) ?_
  refine zm_get hx hb hts in_J2 hown hK.1 hM h_2 rfl 1 (by decide) (hts _ q94) (fun _ h => h) rfl dJ2_add_13 ?_
  refine lv_aload_n hx hb dJ2_add_16 rfl (lv_at hl 0 rfl) ?_
  refine zm_get hx hb hts in_J2 hown hK.1 hM h_2 rfl 2 (by decide) (hts _ q97) (fun _ h => h) rfl dJ2_add_17 ?_
  have hel2 : ∀ i, i < xs.length → zEM M_1 (f i) := fun i hi => by
    rw [hf i _ (List.getElem?_eq_getElem hi), eM_1]
    exact ((hel _ (List.getElem_mem hi)).raw hTM).up (fun ci vs h => by rw [hL] at h; cases h; exact ⟨_, rfl⟩)
  have hx2 : zEM M_1 x := by rw [eM_1]; exact (hx_.raw hTM).up (fun ci vs h => by rw [hL] at h; cases h; exact ⟨_, rfl⟩)
  have hd0 := hMs.2.2.2.1
  refine zc_v (zr_V (As := [va_rf x, .ref (bk a), .int (nI xs.length)]) (rest := []) ⟨hx, hb, hml, hown, hts⟩ (ct_J2_add_2 l g A M_1 a (bk a) cap xs.length (mu + 1) f x h_2 h_3 hlen hn1 hcap hcap0 hel2 hx2) zn_J2_add_2 (lw_V q119 q121 qs0 q43 q122) rfl (by decide) (by decide) hK (fun _ h => h) hS hM (zm_recv hK.1 hM h_2 rfl) rfl hl.1 (Nat.le_of_ble_eq_true rfl) dJ2_add_20 ⟨Nat.le_refl _, Nat.le_refl _⟩) hS (fun _ h => h) (fun u H locs hu hM _ _ hS => ?_)
  rw [eM_1] at hu
  have hT2 := zAd.list hTM hd0 hM ha hf hu
  refine lv_iconst (v := 1) hx hb dJ2_add_23 (by decide) ?_
  exact ze_z hx hb hr hlocks hS dJ2_add_24 (by show _ ≤ 1; omega) (by show _ ≤ 160; omega) (Or.inr rfl) () rfl ⟨_, _, hM, hT2⟩
theorem zn_J2_indexOfRange : zN yJ2_indexOfRange 3 := by decide +kernel
set_option maxHeartbeats 4000000 in
theorem ct_J2_indexOfRange (l : Launch) (g : zG) (A : Nat → Prop) (M : Nat → Option va_E) (a b cap n i0 : Nat) (mu : Value) (f : Nat → Option Nat) (v ci : Nat) (vs : List Value) (ha : M a = some (zo 9 [mu, .ref b, .int (nI n)])) (hb_ : M b = some (zQ g cap f)) (hn : n ≤ cap) (hcap : cap ≤ 160) (hi0 : i0 < n) (h1 : f i0 = some v) (h2 : ∀ j, j < i0 → f j ≠ some v) (hv : M v = some (zo ci vs)) (hci : ci = 3 ∨ ci = 8) : Met l yJ2_indexOfRange (ws_ yJ2_indexOfRange cJ2_indexOfRange 6 (some .int)) (zR 2 0 0) (zP [.ref a, .ref v, .int 0, .int (nI n)] g A (zMH g A M)) (va_Qi (fun rz_ (_ : Unit) => rz_ = nI i0) (fun (_ : Unit) t => zMH g A M t.heap) A) 0 0 A := by
  refine zb_met (by decide) (Nat.le_of_ble_eq_true rfl) ?_
  intro p e s m args below meth c ls hx hb hr hml hown hts hlocks hnm hK hM ha_ hl
  have hown : s.vm.findClass RJ2 = some m.cls := hown
  have hS : va_S A s.heap s.heap [] := va_S.rf
  have hl : lv_has ls 6 [(0, .ref a), (1, .ref v), (2, .int 0), (3, .int (nI n))] := hl
  refine lv_aload_n hx hb dJ2_indexOfRange_0 rfl (lv_at hl 0 rfl) ?_
  refine zm_get hx hb hts in_J2 hown hK.1 hM ha rfl 1 (by decide) (hts _ q94) (fun _ h => h) rfl dJ2_indexOfRange_1 ?_
  refine lv_astore (lv' := [(4, .ref b), (0, .ref a), (1, .ref v), (2, .int 0), (3, .int (nI n))]) hx hb dJ2_indexOfRange_4 hl (by decide) rfl (fun ls hl => ?_)
  refine lv_aload_n hx hb dJ2_indexOfRange_6 rfl (lv_at hl 2 rfl) ?_
  refine lv_ifnonnull (tgt := 39) hx hb dJ2_indexOfRange_7 (by decide) ?_
  refine lv_iload_n hx hb dJ2_indexOfRange_39 rfl (lv_at hl 3 rfl) ?_
  refine lv_istore (lv' := [(5, .int 0), (4, .ref b), (0, .ref a), (1, .ref v), (2, .int 0), (3, .int (nI n))]) hx hb dJ2_indexOfRange_40 hl (by decide) rfl (fun ls hl => ?_)
  have L_2 : ∀ (n_1 : Nat) (k : Nat), (i0 + 1 - k) < n_1 → (k ≤ i0) → ∀ (H : Heap) (locs : List Loc) (ls : Array Slot), zMH g A M H → va_S A s.heap H locs → lv_has ls 6 [(5, .int (nI k)), (4, .ref b), (0, .ref a), (1, .ref v), (2, .int 0), (3, .int (nI n))] → W p l e (zR 2 0 0) s m args below meth c H locs 0 0 (MQ below (va_Qi (fun rz_ (_ : Unit) => rz_ = nI i0) (fun (_ : Unit) t => zMH g A M t.heap) A) args s 0 0 A) (F0 m 42 ls []) := by
    intro n_1
    induction n_1 with
    | zero => intro k hm; exact absurd hm (Nat.not_lt_zero _)
    | succ n_1 ih =>
      intro k hm hk H locs ls hM hS hl
      have ih_3 := ih
      refine lv_iload hx hb dJ2_indexOfRange_42 (lv_at hl 0 rfl) ?_
      refine lv_iload_n hx hb dJ2_indexOfRange_44 rfl (lv_at hl 5 rfl) ?_
      refine zl_ge (tgt := 69) (a := k) (b := n) hx hb (by first | decide | omega) (by first | decide | omega) dJ2_indexOfRange_45 (by decide) (fun c_4 => ?_) (fun c_4 => ?_)
      · exact absurd c_4 (by omega)
      · refine lv_aload_n hx hb dJ2_indexOfRange_48 rfl (lv_at hl 3 rfl) ?_
        refine lv_aload hx hb dJ2_indexOfRange_49 (lv_at hl 1 rfl) ?_
        refine lv_iload hx hb dJ2_indexOfRange_51 (lv_at hl 0 rfl) ?_
        refine zm_ald (k := k) hx hb hK.1 hM hb_ (by omega) (by omega) dJ2_indexOfRange_53 ?_
        refine zc_i (zr_eq (x := f k) (rest := []) ⟨hx, hb, hml, hown, hts⟩ (by decide) hK hS hM hv hci hl.1 (Nat.le_of_ble_eq_true rfl) dJ2_indexOfRange_54 ⟨Nat.zero_le _, Nat.zero_le _⟩) hS (fun _ h => h) (fun r _ H locs hr1 hM _ _ hS => ?_)
        subst hr1
        refine zl_ifeq (tgt := 63) hx hb dJ2_indexOfRange_57 (by decide) (fun c_5 => ?_) (fun c_5 => ?_)
        · refine lv_iinc (v := nI (k + 1)) (lv' := [(5, .int (nI (k + 1))), (4, .ref b), (0, .ref a), (1, .ref v), (2, .int 0), (3, .int (nI n))]) hx hb dJ2_indexOfRange_63 hl (k := 0) rfl (nI_1 k) (by decide) rfl (fun ls hl => ?_)
          refine lv_goto (tgt := 42) hx hb dJ2_indexOfRange_66 (by decide) ?_
          exact ih_3 (k + 1) (by omega) (by have : k ≠ i0 := fun z => (by rw [z, h1] at c_5; simp at c_5); omega) _ _ _ hM hS (lv_sub hl [0, 1, 2, 3, 4, 5] rfl)
        · refine lv_iload hx hb dJ2_indexOfRange_60 (lv_at hl 0 rfl) ?_
          have hk0 : k = i0 := by
            have z : some v = f k := of_decide_eq_true c_5
            rcases Nat.lt_or_ge k i0 with c | c
            · exact absurd z.symm (h2 k c)
            · omega
          exact ze_i hx hb hr hlocks hS dJ2_indexOfRange_62 (Nat.zero_le _) (Nat.zero_le _) () (by rw [hk0]) hM
  exact L_2 ((i0 + 1 - 0) + 1) 0 (Nat.lt_succ_self _) (Nat.zero_le _) _ _ _ hM hS (lv_sub hl [0, 1, 2, 3, 4, 5] rfl)
theorem zn_J2_indexOf : zN yJ2_indexOf 1 := by decide +kernel
set_option maxHeartbeats 4000000 in
theorem ct_J2_indexOf (l : Launch) (g : zG) (A : Nat → Prop) (T : zT) (a : Nat) (mu : Int32) (xs : List (Option Nat)) (ha : T a = some (.inr (mu, xs))) (i0 : Nat) (v ci : Nat) (vs : List Value) (h1 : xs[i0]? = some (some v)) (h2 : ∀ j, j < i0 → xs[j]? ≠ some (some v)) (hv : T v = some (.inl (zo ci vs))) (hci : ci = 3 ∨ ci = 8) : Met l yJ2_indexOf (ws_ yJ2_indexOf cJ2_indexOf 2 (some .int)) (zR 3 0 0) (zP [.ref a, .ref v] g A (zTH g A T)) (va_Qi (fun rz_ (_ : Unit) => rz_ = nI i0) (fun (_ : Unit) t => zTH g A T t.heap) A) 0 0 A := by
  refine zb_met (by decide) (Nat.le_of_ble_eq_true rfl) ?_
  intro p e s m args below meth c ls hx hb hr hml hown hts hlocks hnm hK hT ha_ hl
  have hown : s.vm.findClass RJ2 = some m.cls := hown
  have hS : va_S A s.heap s.heap [] := va_S.rf
  have hl : lv_has ls 2 [(0, .ref a), (1, .ref v)] := hl
  obtain ⟨M, bk, hM, hTM⟩ := hT
  obtain ⟨hL, cap, f, hL2, hlen, hcap, hcap0, hf⟩ := hTM.2.1 _ _ _ ha
  have hi0 : i0 < xs.length := (List.getElem?_eq_some_iff.mp h1).1
  refine lv_aload_n hx hb dJ2_indexOf_0 rfl (lv_at hl 0 rfl) ?_
  refine lv_aload_n hx hb dJ2_indexOf_1 rfl (lv_at hl 1 rfl) ?_
  refine lv_iconst (v := 0) hx hb dJ2_indexOf_2 (by decide) ?_
  refine lv_aload_n hx hb dJ2_indexOf_3 rfl (lv_at hl 0 rfl) ?_
  refine zm_get hx hb hts in_J2 hown hK.1 hM hL rfl 2 (by decide) (hts _ q97) (fun _ h => h) rfl dJ2_indexOf_4 ?_
  have hv := hTM.1 _ _ hv
  refine zc_i (zr_V (As := [.ref v, .int 0, .int (nI xs.length)]) (rest := []) ⟨hx, hb, hml, hown, hts⟩ (ct_J2_indexOfRange l g A M a (bk a) cap xs.length i0 (.int mu) f v ci vs hL hL2 hlen hcap hi0 (hf _ _ h1) (fun j hj z => h2 j hj (by rw [List.getElem?_eq_getElem (show j < xs.length by omega), ← hf j _ (List.getElem?_eq_getElem (show j < xs.length by omega)), z])) hv hci) zn_J2_indexOfRange (lw_V q929 q930 q931 q43 q932) rfl (by decide) (by decide) hK (fun _ h => h) hS hM (zm_recv hK.1 hM hL rfl) rfl hl.1 (Nat.le_of_ble_eq_true rfl) dJ2_indexOf_7 ⟨Nat.le_refl _, Nat.le_refl _⟩) hS (fun _ h => h) (fun r _ H locs hr1 hM _ _ hS => ?_)
  subst hr1
  exact ze_i hx hb hr hlocks hS dJ2_indexOf_10 (Nat.zero_le _) (Nat.zero_le _) () rfl ⟨M, bk, hM, hTM⟩
theorem zn_J2_fastRemove : zN yJ2_fastRemove 2 := by decide +kernel
set_option maxHeartbeats 4000000 in
theorem ct_J2_fastRemove (l : Launch) (g : zG) (A : Nat → Prop) (M : Nat → Option va_E) (a b cap n i : Nat) (mu : Int32) (f : Nat → Option Nat) (ha : M a = some (zo 9 [.int mu, .ref b, .int (nI n)])) (hb_ : M b = some (zQ g cap f)) (hn : n ≤ cap) (hcap : cap ≤ 160) (hi : i < n) (hel : ∀ i, i < n → zEM M (f i)) : Met l yJ2_fastRemove (ws_ yJ2_fastRemove cJ2_fastRemove 4 none) (zR 1 0 0) (zP [.ref a, .ref b, .int (nI i)] g A (zMH g A M)) (va_Qv (fun u => zRm g M a b cap n i mu f u) (fun u t => zMH g A u.1 t.heap) A) 0 0 A := by
  refine zb_met (by decide) (Nat.le_of_ble_eq_true rfl) ?_
  intro p e s m args below meth c ls hx hb hr hml hown hts hlocks hnm hK hM ha_ hl
  have hown : s.vm.findClass RJ2 = some m.cls := hown
  have hS : va_S A s.heap s.heap [] := va_S.rf
  have hl : lv_has ls 4 [(0, .ref a), (1, .ref b), (2, .int (nI i))] := hl
  refine lv_aload_n hx hb dJ2_fastRemove_0 rfl (lv_at hl 0 rfl) ?_
  refine lv_dup hx hb dJ2_fastRemove_1 rfl ?_
  refine zm_get hx hb hts in_J2 hown hK.1 hM ha rfl 0 (by decide) (hts _ q101) (u_same (hts _ q100)) rfl dJ2_fastRemove_2 ?_
  refine lv_iconst (v := 1) hx hb dJ2_fastRemove_5 (by decide) ?_
  refine lv_iadd hx hb dJ2_fastRemove_6 ?_
  refine zm_put hx hb hts in_J2 tyJ2 tyJ2_ok nmJ2 hown hK.1 hM hS ha rfl 0 (by decide) (hts _ q101) (u_same (hts _ q100)) rfl (v := .int (mu + 1)) (tyJ2_ok 0 (by decide)) rfl rfl (show 0 < 3 from by decide) dJ2_fastRemove_7 (fun H locs hM hS => ?_)
  obtain ⟨M_1, eM_1⟩ : ∃ M0, M0 = va_up M a (some (zo 9 [.int (mu + 1), .ref b, .int (nI n)])) := ⟨_, rfl⟩
  have hM : zMH g A M_1 H := by rw [eM_1]; exact hM
  have h_2 : M_1 a = some (zo 9 [.int (mu + 1), .ref b, .int (nI n)]) := by rw [eM_1]; exact va_up_self _ _ _
  have h_3 : M_1 b = some (zQ g cap f) := by rw [eM_1]; exact (va_up_ne _ _ (fun z => by have z1 := hb_; rw [z, ha] at z1; cases z1)).trans hb_
  refine lv_aload_n hx hb dJ2_fastRemove_10 rfl (lv_at hl 0 rfl) ?_
  refine zm_get hx hb hts in_J2 hown hK.1 hM h_2 rfl 2 (by decide) (hts _ q97) (fun _ h => h) rfl dJ2_fastRemove_11 ?_
  refine lv_iconst (v := 1) hx hb dJ2_fastRemove_14 (by decide) ?_
  refine lv_isub hx hb dJ2_fastRemove_15 ?_
  refine zm_topi (y := nI (n - 1)) (zsub (a := n) (b := 1) (by omega)) ?_
  refine lv_dup hx hb dJ2_fastRemove_16 rfl ?_
  refine lv_istore_n (lv' := [(3, .int (nI (n - 1))), (0, .ref a), (1, .ref b), (2, .int (nI i))]) hx hb dJ2_fastRemove_17 rfl hl (by decide) rfl (fun ls hl => ?_)
  refine lv_iload_n hx hb dJ2_fastRemove_18 rfl (lv_at hl 3 rfl) ?_
  refine zl_le (tgt := 34) (a := n - 1) (b := i) hx hb (by first | decide | omega) (by first | decide | omega) dJ2_fastRemove_19 (by decide) (fun c_4 => ?_) (fun c_4 => ?_)
  · refine lv_aload_n hx hb dJ2_fastRemove_34 rfl (lv_at hl 2 rfl) ?_
    refine lv_aload_n hx hb dJ2_fastRemove_35 rfl (lv_at hl 1 rfl) ?_
    refine lv_iload_n hx hb dJ2_fastRemove_36 rfl (lv_at hl 0 rfl) ?_
    refine lv_dup_x1 hx hb dJ2_fastRemove_37 rfl rfl ?_
    refine zm_put hx hb hts in_J2 tyJ2 tyJ2_ok nmJ2 hown hK.1 hM hS h_2 rfl 2 (by decide) (hts _ q97) (fun _ h => h) rfl (v := .int (nI (n - 1))) (tyJ2_ok 2 (by decide)) rfl rfl (show 2 < 3 from by decide) dJ2_fastRemove_38 (fun H locs hM hS => ?_)
    obtain ⟨M_5, eM_5⟩ : ∃ M0, M0 = va_up M_1 a (some (zo 9 [.int (mu + 1), .ref b, .int (nI (n - 1))])) := ⟨_, rfl⟩
    have hM : zMH g A M_5 H := by rw [eM_5]; exact hM
    have h_6 : M_5 a = some (zo 9 [.int (mu + 1), .ref b, .int (nI (n - 1))]) := by rw [eM_5]; exact va_up_self _ _ _
    have h_7 : M_5 b = some (zQ g cap f) := by rw [eM_5]; exact (va_up_ne _ _ (fun z => by have z1 := h_3; rw [z, h_2] at z1; cases z1)).trans h_3
    refine lv_null hx hb dJ2_fastRemove_41 ?_
    refine zm_ast (x := none) (k := n - 1) hx hb hK.1 hM hS h_7 (fun v hv => by cases hv) (by omega) (by omega) dJ2_fastRemove_42 (fun H locs hM hS => ?_)
    obtain ⟨M_8, eM_8⟩ : ∃ M0, M0 = va_up M_5 b (some (zQ g cap (va_up f (n - 1) none))) := ⟨_, rfl⟩
    have hM : zMH g A M_8 H := by rw [eM_8]; exact hM
    have h_9 : M_8 b = some (zQ g cap (va_up f (n - 1) none)) := by rw [eM_8]; exact va_up_self _ _ _
    have h_10 : M_8 a = some (zo 9 [.int (mu + 1), .ref b, .int (nI (n - 1))]) := by rw [eM_8]; exact (va_up_ne _ _ (fun z => by have z1 := h_6; rw [z, h_7] at z1; cases z1)).trans h_6
    refine ze_v hx hb hr hlocks hS dJ2_fastRemove_43 (Nat.zero_le _) (Nat.zero_le _) (M_8, (va_up f (n - 1) none)) ⟨h_10, h_9, fun j hj => ?_, fun p h2 h3 => ?_⟩ hM
    · show va_up _ _ _ j = _
      rw [va_up_ne _ _ (by omega)]
      rw [if_pos (by omega)]
    · exact (by rw [eM_8, va_up_ne _ _ h3, eM_5, va_up_ne _ _ h2, eM_1, va_up_ne _ _ h2] : M_8 p = M p)
  · refine lv_aload_n hx hb dJ2_fastRemove_22 rfl (lv_at hl 2 rfl) ?_
    refine lv_iload_n hx hb dJ2_fastRemove_23 rfl (lv_at hl 3 rfl) ?_
    refine lv_iconst (v := 1) hx hb dJ2_fastRemove_24 (by decide) ?_
    refine lv_iadd hx hb dJ2_fastRemove_25 ?_
    refine zm_topi (y := nI (i + 1)) (nI_1 i) ?_
    refine lv_aload_n hx hb dJ2_fastRemove_26 rfl (lv_at hl 2 rfl) ?_
    refine lv_iload_n hx hb dJ2_fastRemove_27 rfl (lv_at hl 3 rfl) ?_
    refine lv_iload_n hx hb dJ2_fastRemove_28 rfl (lv_at hl 0 rfl) ?_
    refine lv_iload_n hx hb dJ2_fastRemove_29 rfl (lv_at hl 3 rfl) ?_
    refine lv_isub hx hb dJ2_fastRemove_30 ?_
    refine zm_topi (y := nI ((n - 1) - i)) (zsub (a := n - 1) (b := i) (by omega)) ?_
    refine zm_copyQ hx hb (by rw [hml]; exact hl.1.symm) hown (hts _ q623) (hts _ q174) (hts _ q173) (hts _ q47) hK.1 hM hS (sp := i + 1) (dp := i) (n := n - 1 - i) h_3 h_3 (hM.ownA h_3 (by omega)) (by omega) (by omega) (by omega) (by omega) (by omega) (fun j hj => ?_) (Nat.le_of_ble_eq_true rfl) (Nat.le_of_ble_eq_true rfl) dJ2_fastRemove_31 (fun H locs hM hS => ?_)
    · rw [eM_1]; exact ((hel _ (by omega)).up (fun ci vs h => by rw [ha] at h; cases h; exact ⟨_, rfl⟩)).ok hK
    obtain ⟨M_11, eM_11⟩ : ∃ M0, M0 = va_up M_1 b (some (zQ g cap (va_cpy f f (i + 1) i (n - 1 - i)))) := ⟨_, rfl⟩
    have hM : zMH g A M_11 H := by rw [eM_11]; exact hM
    have h_12 : M_11 b = some (zQ g cap (va_cpy f f (i + 1) i (n - 1 - i))) := by rw [eM_11]; exact va_up_self _ _ _
    have h_13 : M_11 a = some (zo 9 [.int (mu + 1), .ref b, .int (nI n)]) := by rw [eM_11]; exact (va_up_ne _ _ (fun z => by have z1 := h_2; rw [z, h_3] at z1; cases z1)).trans h_2
    refine lv_aload_n hx hb dJ2_fastRemove_34 rfl (lv_at hl 2 rfl) ?_
    refine lv_aload_n hx hb dJ2_fastRemove_35 rfl (lv_at hl 1 rfl) ?_
    refine lv_iload_n hx hb dJ2_fastRemove_36 rfl (lv_at hl 0 rfl) ?_
    refine lv_dup_x1 hx hb dJ2_fastRemove_37 rfl rfl ?_
    refine zm_put hx hb hts in_J2 tyJ2 tyJ2_ok nmJ2 hown hK.1 hM hS h_13 rfl 2 (by decide) (hts _ q97) (fun _ h => h) rfl (v := .int (nI (n - 1))) (tyJ2_ok 2 (by decide)) rfl rfl (show 2 < 3 from by decide) dJ2_fastRemove_38 (fun H locs hM hS => ?_)
    obtain ⟨M_14, eM_14⟩ : ∃ M0, M0 = va_up M_11 a (some (zo 9 [.int (mu + 1), .ref b, .int (nI (n - 1))])) := ⟨_, rfl⟩
    have hM : zMH g A M_14 H := by rw [eM_14]; exact hM
    have h_15 : M_14 a = some (zo 9 [.int (mu + 1), .ref b, .int (nI (n - 1))]) := by rw [eM_14]; exact va_up_self _ _ _
    have h_16 : M_14 b = some (zQ g cap (va_cpy f f (i + 1) i (n - 1 - i))) := by rw [eM_14]; exact (va_up_ne _ _ (fun z => by have z1 := h_12; rw [z, h_13] at z1; cases z1)).trans h_12
    refine lv_null hx hb dJ2_fastRemove_41 ?_
    refine zm_ast (x := none) (k := n - 1) hx hb hK.1 hM hS h_16 (fun v hv => by cases hv) (by omega) (by omega) dJ2_fastRemove_42 (fun H locs hM hS => ?_)
    obtain ⟨M_17, eM_17⟩ : ∃ M0, M0 = va_up M_14 b (some (zQ g cap (va_up (va_cpy f f (i + 1) i (n - 1 - i)) (n - 1) none))) := ⟨_, rfl⟩
    have hM : zMH g A M_17 H := by rw [eM_17]; exact hM
    have h_18 : M_17 b = some (zQ g cap (va_up (va_cpy f f (i + 1) i (n - 1 - i)) (n - 1) none)) := by rw [eM_17]; exact va_up_self _ _ _
    have h_19 : M_17 a = some (zo 9 [.int (mu + 1), .ref b, .int (nI (n - 1))]) := by rw [eM_17]; exact (va_up_ne _ _ (fun z => by have z1 := h_15; rw [z, h_16] at z1; cases z1)).trans h_15
    refine ze_v hx hb hr hlocks hS dJ2_fastRemove_43 (Nat.zero_le _) (Nat.zero_le _) (M_17, (va_up (va_cpy f f (i + 1) i (n - 1 - i)) (n - 1) none)) ⟨h_19, h_18, fun j hj => ?_, fun p h2 h3 => ?_⟩ hM
    · show va_up _ _ _ j = _
      rw [va_up_ne _ _ (by omega)]
      unfold va_cpy
      by_cases z : j < i
      · rw [if_neg (by omega), if_pos z]
      · rw [if_pos ⟨by omega, by omega⟩, if_neg z]; congr 1; omega
    · exact (by rw [eM_17, va_up_ne _ _ h3, eM_14, va_up_ne _ _ h2, eM_11, va_up_ne _ _ h3, eM_1, va_up_ne _ _ h2] : M_17 p = M p)
theorem zn_J2_remove : zN yJ2_remove 1 := by decide +kernel
set_option maxHeartbeats 4000000 in
theorem ct_J2_remove (l : Launch) (g : zG) (A : Nat → Prop) (T : zT) (a : Nat) (mu : Int32) (xs : List (Option Nat)) (ha : T a = some (.inr (mu, xs))) (i0 : Nat) (v ci : Nat) (vs : List Value) (h1 : xs[i0]? = some (some v)) (h2 : ∀ j, j < i0 → xs[j]? ≠ some (some v)) (hv : T v = some (.inl (zo ci vs))) (hci : ci = 3 ∨ ci = 8) (hel : ∀ y ∈ xs, zEl T y) : Met l yJ2_remove (ws_ yJ2_remove cJ2_remove 5 (some .boolean)) (zR 2 0 0) (zP [.ref a, .ref v] g A (zTH g A T)) (va_Qi (fun rz_ (_ : Unit) => rz_ = 1) (fun (_ : Unit) t => zTH g A (va_up T a (some (.inr (mu + 1, xs.eraseIdx i0)))) t.heap) A) 0 0 A := by
  refine zb_met (by decide) (Nat.le_of_ble_eq_true rfl) ?_
  intro p e s m args below meth c ls hx hb hr hml hown hts hlocks hnm hK hT ha_ hl
  have hown : s.vm.findClass RJ2 = some m.cls := hown
  have hS : va_S A s.heap s.heap [] := va_S.rf
  have hl : lv_has ls 5 [(0, .ref a), (1, .ref v)] := hl
  obtain ⟨M, bk, hM, hTM⟩ := hT
  obtain ⟨hL, cap, f, hL2, hlen, hcap, hcap0, hf⟩ := hTM.2.1 _ _ _ ha
  have hi0 : i0 < xs.length := (List.getElem?_eq_some_iff.mp h1).1
  have hv := hTM.1 _ _ hv
  refine lv_aload_n hx hb dJ2_remove_0 rfl (lv_at hl 0 rfl) ?_
  refine zm_get hx hb hts in_J2 hown hK.1 hM hL rfl 1 (by decide) (hts _ q94) (fun _ h => h) rfl dJ2_remove_1 ?_
  refine lv_astore_n (lv' := [(2, .ref (bk a)), (0, .ref a), (1, .ref v)]) hx hb dJ2_remove_4 rfl hl (by decide) rfl (fun ls hl => ?_)
  refine lv_aload_n hx hb dJ2_remove_5 rfl (lv_at hl 1 rfl) ?_
  refine zm_get hx hb hts in_J2 hown hK.1 hM hL rfl 2 (by decide) (hts _ q97) (fun _ h => h) rfl dJ2_remove_6 ?_
  refine lv_istore_n (lv' := [(3, .int (nI xs.length)), (2, .ref (bk a)), (0, .ref a), (1, .ref v)]) hx hb dJ2_remove_9 rfl hl (by decide) rfl (fun ls hl => ?_)
  refine lv_iconst (v := 0) hx hb dJ2_remove_10 (by decide) ?_
  refine lv_istore (lv' := [(4, .int 0), (3, .int (nI xs.length)), (2, .ref (bk a)), (0, .ref a), (1, .ref v)]) hx hb dJ2_remove_11 hl (by decide) rfl (fun ls hl => ?_)
  refine lv_aload_n hx hb dJ2_remove_13 rfl (lv_at hl 4 rfl) ?_
  refine lv_ifnonnull (tgt := 39) hx hb dJ2_remove_14 (by decide) ?_
  have L_2 : ∀ (n_1 : Nat) (k : Nat), (i0 + 1 - k) < n_1 → (k ≤ i0) → ∀ (H : Heap) (locs : List Loc) (ls : Array Slot), zMH g A M H → va_S A s.heap H locs → lv_has ls 5 [(4, .int (nI k)), (3, .int (nI xs.length)), (2, .ref (bk a)), (0, .ref a), (1, .ref v)] → W p l e (zR 2 0 0) s m args below meth c H locs 0 0 (MQ below (va_Qi (fun rz_ (_ : Unit) => rz_ = 1) (fun (_ : Unit) t => zTH g A (va_up T a (some (.inr (mu + 1, xs.eraseIdx i0)))) t.heap) A) args s 0 0 A) (F0 m 39 ls []) := by
    intro n_1
    induction n_1 with
    | zero => intro k hm; exact absurd hm (Nat.not_lt_zero _)
    | succ n_1 ih =>
      intro k hm hk H locs ls hM hS hl
      have ih_3 := ih
      refine lv_iload hx hb dJ2_remove_39 (lv_at hl 0 rfl) ?_
      refine lv_iload_n hx hb dJ2_remove_41 rfl (lv_at hl 1 rfl) ?_
      refine zl_ge (tgt := 65) (a := k) (b := xs.length) hx hb (by first | decide | omega) (by first | decide | omega) dJ2_remove_42 (by decide) (fun c_4 => ?_) (fun c_4 => ?_)
      · exact absurd c_4 (by omega)
      · refine lv_aload_n hx hb dJ2_remove_45 rfl (lv_at hl 4 rfl) ?_
        refine lv_aload_n hx hb dJ2_remove_46 rfl (lv_at hl 2 rfl) ?_
        refine lv_iload hx hb dJ2_remove_47 (lv_at hl 0 rfl) ?_
        refine zm_ald (k := k) hx hb hK.1 hM hL2 (by omega) (by omega) dJ2_remove_49 ?_
        refine zc_i (zr_eq (x := f k) (rest := []) ⟨hx, hb, hml, hown, hts⟩ (by decide) hK hS hM hv hci hl.1 (Nat.le_of_ble_eq_true rfl) dJ2_remove_50 ⟨Nat.zero_le _, Nat.zero_le _⟩) hS (fun _ h => h) (fun r _ H locs hr1 hM _ _ hS => ?_)
        subst hr1
        refine zl_ifeq (tgt := 59) hx hb dJ2_remove_53 (by decide) (fun c_5 => ?_) (fun c_5 => ?_)
        · refine lv_iinc (v := nI (k + 1)) (lv' := [(4, .int (nI (k + 1))), (3, .int (nI xs.length)), (2, .ref (bk a)), (0, .ref a), (1, .ref v)]) hx hb dJ2_remove_59 hl (k := 0) rfl (nI_1 k) (by decide) rfl (fun ls hl => ?_)
          refine lv_goto (tgt := 39) hx hb dJ2_remove_62 (by decide) ?_
          exact ih_3 (k + 1) (by omega) (by have : k ≠ i0 := fun z => (by rw [z, hf _ _ h1] at c_5; simp at c_5); omega) _ _ _ hM hS (lv_sub hl [0, 1, 2, 3, 4] rfl)
        · refine lv_goto (tgt := 67) hx hb dJ2_remove_56 (by decide) ?_
          refine lv_aload_n hx hb dJ2_remove_67 rfl (lv_at hl 3 rfl) ?_
          refine lv_aload_n hx hb dJ2_remove_68 rfl (lv_at hl 2 rfl) ?_
          refine lv_iload hx hb dJ2_remove_69 (lv_at hl 0 rfl) ?_
          have hk0 : k = i0 := by
            have z : some v = f k := of_decide_eq_true c_5
            rcases Nat.lt_or_ge k i0 with c | c
            · exact absurd (by rw [List.getElem?_eq_getElem (show k < xs.length by omega), ← hf k _ (List.getElem?_eq_getElem (show k < xs.length by omega)), ← z]) (h2 k c)
            · omega
          subst hk0
          have hel2 : ∀ i, i < xs.length → zEM M (f i) := fun i hi => by
            rw [hf i _ (List.getElem?_eq_getElem hi)]
            exact (hel _ (List.getElem_mem hi)).raw hTM
          have hd0 := hM.2.2.2.1
          refine zc_v (zr_V (As := [.ref (bk a), .int (nI k)]) (rest := []) ⟨hx, hb, hml, hown, hts⟩ (ct_J2_fastRemove l g A M a (bk a) cap xs.length k mu f hL hL2 hlen hcap (by omega) hel2) zn_J2_fastRemove (lw_V q619 q621 qs7 q43 q622) rfl (by decide) (by decide) hK (fun _ h => h) hS hM (zm_recv hK.1 hM hL rfl) rfl hl.1 (Nat.le_of_ble_eq_true rfl) dJ2_remove_71 ⟨by show _ + 0 ≤ _; exact Nat.le_refl _, by show _ + 0 ≤ _; exact Nat.le_refl _⟩) hS (fun _ h => h) (fun u H locs hu hM _ _ hS => ?_)
          have hT2 := hu.list hTM hd0 ha hL2 hlen hcap (by omega) hf
          refine lv_iconst (v := 1) hx hb dJ2_remove_74 (by decide) ?_
          exact ze_z hx hb hr hlocks hS dJ2_remove_75 (Nat.le_refl _) (Nat.le_refl _) (Or.inr rfl) () rfl ⟨_, _, hM, hT2⟩
  exact L_2 ((i0 + 1 - 0) + 1) 0 (Nat.lt_succ_self _) (Nat.zero_le _) _ _ _ hM hS (lv_sub hl [0, 1, 2, 3, 4] rfl)
