/-! THE REFERENCE's METHODS, 3: their contracts -/
theorem zn_X3_wheelsetOf : zN yX3_wheelsetOf 2 := by decide +kernel
set_option maxHeartbeats 4000000 in
theorem ct_X3_wheelsetOf (l : Launch) (g : zG) (A : Nat → Prop) (mo : Nat) (ma : Nat → Nat) (X : zX) (h : Int32) (b : Bool) (hI : MH X) : Met l yX3_wheelsetOf (ws_ yX3_wheelsetOf cX3_wheelsetOf 6 (some .int)) (zR 1 0 0) (zP [.ref mo, .int h, .int (zb b)] g A (zMX g A mo ma X)) (va_Qi (fun rz_ (_ : Unit) => rz_ = mWo X h b) (fun (_ : Unit) t => zMX g A mo ma X t.heap) A) 0 0 A := by
  refine zb_met (by decide) (Nat.le_of_ble_eq_true rfl) ?_
  intro p e s m args below meth c ls hx hb hr hml hown hts hlocks hnm hK hX ha hl
  have hown : s.vm.findClass RX3 = some m.cls := hown
  have hS : va_S A s.heap s.heap [] := va_S.rf
  have hl : lv_has ls 6 [(0, .ref mo), (1, .int h), (2, .int (zb b))] := hl
  have hn60 := hI.1.2
  refine lv_iconst (v := (-1)) hx hb dX3_wheelsetOf_0 (by decide) ?_
  refine lv_istore_n (lv' := [(3, .int (-1)), (0, .ref mo), (1, .int h), (2, .int (zb b))]) hx hb dX3_wheelsetOf_1 rfl hl (by decide) rfl (fun ls hl => ?_)
  refine lv_iconst (v := 0) hx hb dX3_wheelsetOf_2 (by decide) ?_
  refine lv_istore (lv' := [(4, .int 0), (3, .int (-1)), (0, .ref mo), (1, .int h), (2, .int (zb b))]) hx hb dX3_wheelsetOf_3 hl (by decide) rfl (fun ls hl => ?_)
  have L_2 : ∀ (n_1 : Nat) (j : Nat), mN X + 1 - j < n_1 → (j ≤ mN X) → ∀ (H : Heap) (locs : List Loc) (ls : Array Slot), zMX g A mo ma X H → va_S A s.heap H locs → lv_has ls 6 [(4, .int (nI j)), (3, .int (zwo X h b j)), (0, .ref mo), (1, .int h), (2, .int (zb b))] → W p l e (zR 1 0 0) s m args below meth c H locs 0 0 (MQ below (va_Qi (fun rz_ (_ : Unit) => rz_ = mWo X h b) (fun (_ : Unit) t => zMX g A mo ma X t.heap) A) args s 0 0 A) (F0 m 5 ls []) := by
    intro n_1
    induction n_1 with
    | zero => intro j hm; exact absurd hm (Nat.not_lt_zero _)
    | succ n_1 ih =>
      intro j hm hj H locs ls hX hS hl
      have ih_3 := ih
      refine lv_iload hx hb dX3_wheelsetOf_5 (lv_at hl 0 rfl) ?_
      refine lv_aload_n hx hb dX3_wheelsetOf_7 rfl (lv_at hl 2 rfl) ?_
      refine zx_get hx hb hown hts hK hX 1 (by decide) q1022 rfl rfl dX3_wheelsetOf_8 ?_
      refine zm_topi (y := nI (mN X)) (hI.1.1) ?_
      refine zl_ge (tgt := 70) (a := j) (b := mN X) hx hb (by first | decide | omega) (by first | decide | omega) dX3_wheelsetOf_11 (by decide) (fun c_4 => ?_) (fun c_4 => ?_)
      · refine lv_iload_n hx hb dX3_wheelsetOf_70 rfl (lv_at hl 1 rfl) ?_
        have e1 : (zwo X h b j : Int32) = mWo X h b := by have q2 : j = mN X := (by omega); subst q2; rfl
        exact ze_i hx hb hr hlocks hS dX3_wheelsetOf_71 (Nat.le_refl _) (Nat.le_refl _) () e1 hX
      · refine lv_aload_n hx hb dX3_wheelsetOf_14 rfl (lv_at hl 2 rfl) ?_
        refine zx_get hx hb hown hts hK hX 5 (by decide) q1026 rfl rfl dX3_wheelsetOf_15 ?_
        refine lv_iload hx hb dX3_wheelsetOf_18 (lv_at hl 0 rfl) ?_
        refine zx_ld (i := j) hx hb hK hX 5 rfl rfl (n := 60) rfl (by omega) dX3_wheelsetOf_20 ?_
        refine lv_iload_n hx hb dX3_wheelsetOf_21 rfl (lv_at hl 3 rfl) ?_
        refine lv_icmp_ne (tgt := 40) hx hb dX3_wheelsetOf_22 (by decide) (fun c_5 => ?_) (fun c_5 => ?_)
        · refine lv_iconst (v := 0) hx hb dX3_wheelsetOf_40 (by decide) ?_
          refine lv_istore (lv' := [(5, .int 0), (4, .int (nI j)), (3, .int (zwo X h b j)), (0, .ref mo), (1, .int h), (2, .int (zb b))]) hx hb dX3_wheelsetOf_41 hl (by decide) rfl (fun ls hl => ?_)
          refine lv_iload hx hb dX3_wheelsetOf_43 (lv_at hl 0 rfl) ?_
          refine lv_if_eq (tgt := 62) hx hb dX3_wheelsetOf_45 (by decide) (fun _ => ?_) (fun c_6 => absurd (by decide) c_6)
          refine lv_iload_n hx hb dX3_wheelsetOf_62 rfl (lv_at hl 2 rfl) ?_
          refine zm_topi (y := zwo X h b (j + 1)) (by simp only [zwo]; rw [if_neg (fun z => c_5 z.1)]) ?_
          refine lv_istore_n (lv' := [(3, .int (zwo X h b (j + 1))), (5, .int 0), (4, .int (nI j)), (0, .ref mo), (1, .int h), (2, .int (zb b))]) hx hb dX3_wheelsetOf_63 rfl hl (by decide) rfl (fun ls hl => ?_)
          refine lv_iinc (v := nI (j + 1)) (lv' := [(4, .int (nI (j + 1))), (3, .int (zwo X h b (j + 1))), (5, .int 0), (0, .ref mo), (1, .int h), (2, .int (zb b))]) hx hb dX3_wheelsetOf_64 hl (k := 2) rfl (nI_1 j) (by decide) rfl (fun ls hl => ?_)
          refine lv_goto (tgt := 5) hx hb dX3_wheelsetOf_67 (by decide) ?_
          exact ih_3 (j + 1) (by omega) (by omega) _ _ _ hX hS (lv_sub hl [0, 1, 3, 4, 5] rfl)
        · refine lv_aload_n hx hb dX3_wheelsetOf_25 rfl (lv_at hl 2 rfl) ?_
          refine zx_get hx hb hown hts hK hX 2 (by decide) q1023 rfl rfl dX3_wheelsetOf_26 ?_
          refine lv_iload hx hb dX3_wheelsetOf_29 (lv_at hl 0 rfl) ?_
          refine zx_ld (i := j) hx hb hK hX 2 rfl rfl (n := 60) rfl (by omega) dX3_wheelsetOf_31 ?_
          refine lv_iconst (v := 3) hx hb dX3_wheelsetOf_32 (by decide) ?_
          refine lv_icmp_ne (tgt := 40) hx hb dX3_wheelsetOf_33 (by decide) (fun c_7 => ?_) (fun c_7 => ?_)
          · refine lv_iconst (v := 0) hx hb dX3_wheelsetOf_40 (by decide) ?_
            refine lv_istore (lv' := [(5, .int 0), (4, .int (nI j)), (3, .int (zwo X h b j)), (0, .ref mo), (1, .int h), (2, .int (zb b))]) hx hb dX3_wheelsetOf_41 hl (by decide) rfl (fun ls hl => ?_)
            refine lv_iload hx hb dX3_wheelsetOf_43 (lv_at hl 0 rfl) ?_
            refine lv_if_eq (tgt := 62) hx hb dX3_wheelsetOf_45 (by decide) (fun _ => ?_) (fun c_8 => absurd (by decide) c_8)
            refine lv_iload_n hx hb dX3_wheelsetOf_62 rfl (lv_at hl 2 rfl) ?_
            refine zm_topi (y := zwo X h b (j + 1)) (by simp only [zwo]; rw [if_neg (fun z => c_7 z.2.1)]) ?_
            refine lv_istore_n (lv' := [(3, .int (zwo X h b (j + 1))), (5, .int 0), (4, .int (nI j)), (0, .ref mo), (1, .int h), (2, .int (zb b))]) hx hb dX3_wheelsetOf_63 rfl hl (by decide) rfl (fun ls hl => ?_)
            refine lv_iinc (v := nI (j + 1)) (lv' := [(4, .int (nI (j + 1))), (3, .int (zwo X h b (j + 1))), (5, .int 0), (0, .ref mo), (1, .int h), (2, .int (zb b))]) hx hb dX3_wheelsetOf_64 hl (k := 2) rfl (nI_1 j) (by decide) rfl (fun ls hl => ?_)
            refine lv_goto (tgt := 5) hx hb dX3_wheelsetOf_67 (by decide) ?_
            exact ih_3 (j + 1) (by omega) (by omega) _ _ _ hX hS (lv_sub hl [0, 1, 3, 4, 5] rfl)
          · refine lv_iconst (v := 1) hx hb dX3_wheelsetOf_36 (by decide) ?_
            refine lv_goto (tgt := 41) hx hb dX3_wheelsetOf_37 (by decide) ?_
            refine lv_istore (lv' := [(5, .int 1), (4, .int (nI j)), (3, .int (zwo X h b j)), (0, .ref mo), (1, .int h), (2, .int (zb b))]) hx hb dX3_wheelsetOf_41 hl (by decide) rfl (fun ls hl => ?_)
            refine lv_iload hx hb dX3_wheelsetOf_43 (lv_at hl 0 rfl) ?_
            refine lv_if_eq (tgt := 62) hx hb dX3_wheelsetOf_45 (by decide) (fun c_9 => absurd c_9 (by decide)) (fun _ => ?_)
            refine lv_iload_n hx hb dX3_wheelsetOf_48 rfl (lv_at hl 5 rfl) ?_
            refine zl_ifne (tgt := 57) hx hb dX3_wheelsetOf_49 (by decide) (fun c_10 => ?_) (fun c_10 => ?_)
            · refine lv_iload hx hb dX3_wheelsetOf_57 (lv_at hl 1 rfl) ?_
              refine lv_goto (tgt := 63) hx hb dX3_wheelsetOf_59 (by decide) ?_
              refine zm_topi (y := zwo X h b (j + 1)) (by simp only [zwo]; rw [if_pos ⟨c_5, c_7, Or.inl c_10⟩]) ?_
              refine lv_istore_n (lv' := [(3, .int (zwo X h b (j + 1))), (5, .int 1), (4, .int (nI j)), (0, .ref mo), (1, .int h), (2, .int (zb b))]) hx hb dX3_wheelsetOf_63 rfl hl (by decide) rfl (fun ls hl => ?_)
              refine lv_iinc (v := nI (j + 1)) (lv' := [(4, .int (nI (j + 1))), (3, .int (zwo X h b (j + 1))), (5, .int 1), (0, .ref mo), (1, .int h), (2, .int (zb b))]) hx hb dX3_wheelsetOf_64 hl (k := 2) rfl (nI_1 j) (by decide) rfl (fun ls hl => ?_)
              refine lv_goto (tgt := 5) hx hb dX3_wheelsetOf_67 (by decide) ?_
              exact ih_3 (j + 1) (by omega) (by omega) _ _ _ hX hS (lv_sub hl [0, 1, 3, 4, 5] rfl)
            · refine lv_iload_n hx hb dX3_wheelsetOf_52 rfl (lv_at hl 2 rfl) ?_
              refine lv_iconst (v := (-1)) hx hb dX3_wheelsetOf_53 (by decide) ?_
              refine lv_icmp_ne (tgt := 62) hx hb dX3_wheelsetOf_54 (by decide) (fun c_11 => ?_) (fun c_11 => ?_)
              · refine lv_iload_n hx hb dX3_wheelsetOf_62 rfl (lv_at hl 2 rfl) ?_
                refine zm_topi (y := zwo X h b (j + 1)) (by simp only [zwo]; rw [if_neg (fun z => z.2.2.elim (fun y => absurd (y.symm.trans c_10) (by decide)) c_11)]) ?_
                refine lv_istore_n (lv' := [(3, .int (zwo X h b (j + 1))), (5, .int 1), (4, .int (nI j)), (0, .ref mo), (1, .int h), (2, .int (zb b))]) hx hb dX3_wheelsetOf_63 rfl hl (by decide) rfl (fun ls hl => ?_)
                refine lv_iinc (v := nI (j + 1)) (lv' := [(4, .int (nI (j + 1))), (3, .int (zwo X h b (j + 1))), (5, .int 1), (0, .ref mo), (1, .int h), (2, .int (zb b))]) hx hb dX3_wheelsetOf_64 hl (k := 2) rfl (nI_1 j) (by decide) rfl (fun ls hl => ?_)
                refine lv_goto (tgt := 5) hx hb dX3_wheelsetOf_67 (by decide) ?_
                exact ih_3 (j + 1) (by omega) (by omega) _ _ _ hX hS (lv_sub hl [0, 1, 3, 4, 5] rfl)
              · refine lv_iload hx hb dX3_wheelsetOf_57 (lv_at hl 1 rfl) ?_
                refine lv_goto (tgt := 63) hx hb dX3_wheelsetOf_59 (by decide) ?_
                refine zm_topi (y := zwo X h b (j + 1)) (by simp only [zwo]; rw [if_pos ⟨c_5, c_7, Or.inr c_11⟩]) ?_
                refine lv_istore_n (lv' := [(3, .int (zwo X h b (j + 1))), (5, .int 1), (4, .int (nI j)), (0, .ref mo), (1, .int h), (2, .int (zb b))]) hx hb dX3_wheelsetOf_63 rfl hl (by decide) rfl (fun ls hl => ?_)
                refine lv_iinc (v := nI (j + 1)) (lv' := [(4, .int (nI (j + 1))), (3, .int (zwo X h b (j + 1))), (5, .int 1), (0, .ref mo), (1, .int h), (2, .int (zb b))]) hx hb dX3_wheelsetOf_64 hl (k := 2) rfl (nI_1 j) (by decide) rfl (fun ls hl => ?_)
                refine lv_goto (tgt := 5) hx hb dX3_wheelsetOf_67 (by decide) ?_
                exact ih_3 (j + 1) (by omega) (by omega) _ _ _ hX hS (lv_sub hl [0, 1, 3, 4, 5] rfl)
  exact L_2 ((mN X + 1 - 0) + 1) 0 (Nat.lt_succ_self _) (by omega) _ _ _ hX hS (lv_sub hl [0, 1, 2, 3, 4] rfl)
theorem zn_X3_trues : zN yX3_trues 1 := by decide +kernel
set_option maxHeartbeats 4000000 in
theorem ct_X3_trues (l : Launch) (g : zG) (A : Nat → Prop) (mo : Nat) (ma : Nat → Nat) (X : zX) (q : Nat) (hI : MH X) (hq : q < mN X) : Met l yX3_trues (ws_ yX3_trues cX3_trues 3 (some .int)) (zR 1 0 0) (zP [.ref mo, .int (nI q)] g A (zMX g A mo ma X)) (va_Qi (fun rz_ (_ : Unit) => rz_ = (m_trues X q).1) (fun (_ : Unit) t => zMX g A mo ma ((m_trues X q).2) t.heap) A) 0 0 A := by
  refine zb_met (by decide) (Nat.le_of_ble_eq_true rfl) ?_
  intro p e s m args below meth c ls hx hb hr hml hown hts hlocks hnm hK hX ha hl
  have hown : s.vm.findClass RX3 = some m.cls := hown
  have hS : va_S A s.heap s.heap [] := va_S.rf
  have hl : lv_has ls 3 [(0, .ref mo), (1, .int (nI q))] := hl
  have hn60 := hI.1.2
  refine lv_iconst (v := 2) hx hb dX3_trues_0 (by decide) ?_
  refine lv_sipush (v := 300) hx hb dX3_trues_1 (by decide) ?_
  refine lv_aload_n hx hb dX3_trues_4 rfl (lv_at hl 0 rfl) ?_
  refine zx_get hx hb hown hts hK hX 14 (by decide) q1035 rfl rfl dX3_trues_5 ?_
  refine lv_iload_n hx hb dX3_trues_8 rfl (lv_at hl 1 rfl) ?_
  refine zx_ld (i := q) hx hb hK hX 14 rfl rfl (n := 60) rfl (by omega) dX3_trues_9 ?_
  refine lv_isub hx hb dX3_trues_10 ?_
  refine lv_imul hx hb dX3_trues_11 ?_
  refine lv_istore_n (lv' := [(2, .int (2 * (300 - (X 14 q)))), (0, .ref mo), (1, .int (nI q))]) hx hb dX3_trues_12 rfl hl (by decide) rfl (fun ls hl => ?_)
  refine lv_aload_n hx hb dX3_trues_13 rfl (lv_at hl 1 rfl) ?_
  refine zx_get hx hb hown hts hK hX 13 (by decide) q1034 rfl rfl dX3_trues_14 ?_
  refine lv_iload_n hx hb dX3_trues_17 rfl (lv_at hl 2 rfl) ?_
  refine lv_dup2_11 hx hb dX3_trues_18 rfl rfl ?_
  refine zx_ld (i := q) hx hb hK hX 13 rfl rfl (n := 60) rfl (by omega) dX3_trues_19 ?_
  refine lv_iload_n hx hb dX3_trues_20 rfl (lv_at hl 0 rfl) ?_
  refine lv_isub hx hb dX3_trues_21 ?_
  refine zx_st (i := q) hx hb hK hX hS 13 rfl rfl (n := 60) rfl (by omega) dX3_trues_22 (fun H locs hX hS => ?_)
  refine lv_aload_n hx hb dX3_trues_23 rfl (lv_at hl 1 rfl) ?_
  refine zx_get hx hb hown hts hK hX 14 (by decide) q1035 rfl rfl dX3_trues_24 ?_
  refine lv_iload_n hx hb dX3_trues_27 rfl (lv_at hl 2 rfl) ?_
  refine lv_sipush (v := 300) hx hb dX3_trues_28 (by decide) ?_
  refine zx_st (i := q) hx hb hK hX hS 14 rfl rfl (n := 60) rfl (by omega) dX3_trues_31 (fun H locs hX hS => ?_)
  refine lv_iload_n hx hb dX3_trues_32 rfl (lv_at hl 0 rfl) ?_
  have e1 : (2 * (300 - (X 14 q)) : Int32) = (m_trues X q).1 := by rfl
  have e2 : zu (zu X 13 q ((X 13 q) - (2 * (300 - (X 14 q))))) 14 q 300 = (m_trues X q).2 := by rfl
  rw [e2] at hX
  exact ze_i hx hb hr hlocks hS dX3_trues_33 (Nat.le_refl _) (Nat.le_refl _) () e1 hX
theorem zn_X3_turn : zN yX3_turn 1 := by decide +kernel
set_option maxHeartbeats 4000000 in
theorem ct_X3_turn (l : Launch) (g : zG) (A : Nat → Prop) (mo : Nat) (ma : Nat → Nat) (X : zX) (x : Int32) (hI : MH X) (hz12 : ∀ p, X 12 p = 0 ∨ X 12 p = 1) : Met l yX3_turn (ws_ yX3_turn cX3_turn 6 (some .int)) (zR 4 0 0) (zP [.ref mo, .int x] g A (zMX g A mo ma X)) (va_Qi (fun rz_ (_ : Unit) => rz_ = (m_turn X x).1) (fun (_ : Unit) t => zMX g A mo ma ((m_turn X x).2) t.heap) A) 0 0 A := by
  refine zb_met (by decide) (Nat.le_of_ble_eq_true rfl) ?_
  intro p e s m args below meth c ls hx hb hr hml hown hts hlocks hnm hK hX ha hl
  have hown : s.vm.findClass RX3 = some m.cls := hown
  have hS : va_S A s.heap s.heap [] := va_S.rf
  have hl : lv_has ls 6 [(0, .ref mo), (1, .int x)] := hl
  have hn60 := hI.1.2
  refine lv_aload_n hx hb dX3_turn_0 rfl (lv_at hl 0 rfl) ?_
  refine lv_aload_n hx hb dX3_turn_1 rfl (lv_at hl 0 rfl) ?_
  refine lv_iload_n hx hb dX3_turn_2 rfl (lv_at hl 1 rfl) ?_
  refine lv_iconst (v := 2) hx hb dX3_turn_3 (by decide) ?_
  refine zc_i (zr_V (As := [.int x, .int 2]) (rest := [.ref mo]) ⟨hx, hb, hml, hown, hts⟩ (ct_X3_kindCode l g A mo ma X x 2 hI) zn_X3_kindCode (lw_V q1185 q1187 qs23 q48 q1188) rfl (by decide) (by decide) hK (fun _ h => h) hS hX (zx_recv hK hX) rfl hl.1 (Nat.le_of_ble_eq_true rfl) dX3_turn_4 ⟨Nat.le_refl _, Nat.le_refl _⟩) hS (fun _ h => h) (fun r _ H locs r_1 hX _ _ hS => ?_)
  subst r_1
  rcases mKc_c hI x 2 with ⟨k_2, e_3⟩ | ⟨p, hp, rfl, k_2, e_3⟩ | ⟨p, hp, rfl, k_2, e_3⟩
  · refine zm_topi (y := 1) e_3 ?_
    refine zx_put hx hb hown hts hK hX hS 0 (by decide) rfl q1021 rfl rfl rfl rfl dX3_turn_7 (fun H locs hX hS => ?_)
    refine lv_aload_n hx hb dX3_turn_10 rfl (lv_at hl 0 rfl) ?_
    refine zx_get hx hb hown hts hK hX 0 (by decide) q1021 rfl rfl dX3_turn_11 ?_
    refine zm_topi (y := 1) (by simp [zu]) ?_
    refine lv_if_le (tgt := 19) hx hb dX3_turn_14 (by decide) (fun c_4 => absurd c_4 (by decide)) (fun _ => ?_)
    refine lv_iconst (v := 0) hx hb dX3_turn_17 (by decide) ?_
    have e1 : (0 : Int32) = (m_turn X x).1 := by simp [m_turn, mHd_w, mIn_w, zu_zu, k_2, e_3]
    have e2 : zu X 0 0 1 = (m_turn X x).2 := by simp [m_turn, mHd_w, mIn_w, zu_zu, k_2, e_3]
    rw [e2] at hX
    exact ze_i hx hb hr hlocks hS dX3_turn_18 (Nat.le_refl _) (Nat.le_refl _) () e1 hX
  · refine zm_topi (y := 2) e_3 ?_
    have hcp : (nI p).toNatClampNeg = p := nI_clamp (by omega)
    refine zx_put hx hb hown hts hK hX hS 0 (by decide) rfl q1021 rfl rfl rfl rfl dX3_turn_7 (fun H locs hX hS => ?_)
    refine lv_aload_n hx hb dX3_turn_10 rfl (lv_at hl 0 rfl) ?_
    refine zx_get hx hb hown hts hK hX 0 (by decide) q1021 rfl rfl dX3_turn_11 ?_
    refine zm_topi (y := 2) (by simp [zu]) ?_
    refine lv_if_le (tgt := 19) hx hb dX3_turn_14 (by decide) (fun c_5 => absurd c_5 (by decide)) (fun _ => ?_)
    refine lv_iconst (v := 0) hx hb dX3_turn_17 (by decide) ?_
    have e1 : (0 : Int32) = (m_turn X (nI p)).1 := by simp [m_turn, mHd_w, mIn_w, zu_zu, hcp, k_2, e_3]
    have e2 : zu X 0 0 2 = (m_turn X (nI p)).2 := by simp [m_turn, mHd_w, mIn_w, zu_zu, hcp, k_2, e_3]
    rw [e2] at hX
    exact ze_i hx hb hr hlocks hS dX3_turn_18 (Nat.le_refl _) (Nat.le_refl _) () e1 hX
  · refine zm_topi (y := 0) e_3 ?_
    have hcp : (nI p).toNatClampNeg = p := nI_clamp (by omega)
    refine zx_put hx hb hown hts hK hX hS 0 (by decide) rfl q1021 rfl rfl rfl rfl dX3_turn_7 (fun H locs hX hS => ?_)
    refine lv_aload_n hx hb dX3_turn_10 rfl (lv_at hl 0 rfl) ?_
    refine zx_get hx hb hown hts hK hX 0 (by decide) q1021 rfl rfl dX3_turn_11 ?_
    refine zm_topi (y := 0) (by simp [zu]) ?_
    refine lv_if_le (tgt := 19) hx hb dX3_turn_14 (by decide) (fun _ => ?_) (fun c_6 => absurd (by decide) c_6)
    refine lv_aload_n hx hb dX3_turn_19 rfl (lv_at hl 0 rfl) ?_
    refine lv_aload_n hx hb dX3_turn_20 rfl (lv_at hl 0 rfl) ?_
    refine lv_iload_n hx hb dX3_turn_21 rfl (lv_at hl 1 rfl) ?_
    refine lv_iconst (v := 3) hx hb dX3_turn_22 (by decide) ?_
    refine zc_i (zr_V (As := [.int (nI p), .int 3]) (rest := [.ref mo]) ⟨hx, hb, hml, hown, hts⟩ (ct_X3_inside l g A mo ma (zu X 0 0 0) (nI p) 3 (hI.w 0 0 0 (by decide) (by decide) (by decide))) zn_X3_inside (lw_V q1157 q1159 qs19 q48 q1160) rfl (by decide) (by decide) hK (fun _ h => h) hS hX (zx_recv hK hX) rfl hl.1 (Nat.le_of_ble_eq_true rfl) dX3_turn_23 ⟨Nat.le_refl _, Nat.le_refl _⟩) hS (fun _ h => h) (fun r _ H locs r_7 hX _ _ hS => ?_)
    subst r_7
    refine zm_topi (y := nI (mIn X (nI p) 3)) (by simp [mN_w, mIs_w, mKc_w, mHd_w, mIi_w, mIn_w, mK_w, mH_w, mM_w, mW_w, zu]) ?_
    refine lv_iconst (v := 2) hx hb dX3_turn_26 (by decide) ?_
    refine zl_lt (tgt := 38) (a := mIn X (nI p) 3) (b := 2) hx hb (Nat.lt_of_le_of_lt (mIn_le _ _ _) (by omega)) (by first | decide | omega) dX3_turn_27 (by decide) (fun c_8 => ?_) (fun c_8 => ?_)
    · refine lv_iconst (v := 3) hx hb dX3_turn_38 (by decide) ?_
      refine lv_goto (tgt := 43) hx hb dX3_turn_39 (by decide) ?_
      refine zx_put hx hb hown hts hK hX hS 0 (by decide) rfl q1021 rfl rfl rfl rfl dX3_turn_43 (fun H locs hX hS => ?_)
      rw [zu_zu] at hX
      refine lv_aload_n hx hb dX3_turn_46 rfl (lv_at hl 0 rfl) ?_
      refine zx_get hx hb hown hts hK hX 0 (by decide) q1021 rfl rfl dX3_turn_47 ?_
      refine zm_topi (y := 3) (by simp [zu]) ?_
      refine lv_if_le (tgt := 55) hx hb dX3_turn_50 (by decide) (fun c_9 => absurd c_9 (by decide)) (fun _ => ?_)
      refine lv_iconst (v := 0) hx hb dX3_turn_53 (by decide) ?_
      have e1 : (0 : Int32) = (m_turn X (nI p)).1 := by simp [m_turn, mHd_w, mIn_w, zu_zu, hcp, k_2, e_3, c_8]
      have e2 : zu X 0 0 3 = (m_turn X (nI p)).2 := by simp [m_turn, mHd_w, mIn_w, zu_zu, hcp, k_2, e_3, c_8]
      rw [e2] at hX
      exact ze_i hx hb hr hlocks hS dX3_turn_54 (Nat.le_refl _) (Nat.le_refl _) () e1 hX
    · refine lv_aload_n hx hb dX3_turn_30 rfl (lv_at hl 0 rfl) ?_
      refine lv_iload_n hx hb dX3_turn_31 rfl (lv_at hl 1 rfl) ?_
      refine zc_i (zr_V (As := [.int (nI p)]) (rest := [.ref mo]) ⟨hx, hb, hml, hown, hts⟩ (ct_X3_isBound l g A mo ma (zu X 0 0 0) p (hI.w 0 0 0 (by decide) (by decide) (by decide)) (by have hz_ := show p < mN X from hp; simpa [mN_w, m_moves, m_ends, mN_goes, mN_hl, mN_rc, m_trues] using hz_) (by intro p; simpa [zu, m_moves, m_ends] using hz12 p)) zn_X3_isBound (lw_V q1149 q1151 qs17 q48 q1152) rfl (by decide) (by decide) hK (fun _ h => h) hS hX (zx_recv hK hX) rfl hl.1 (Nat.le_of_ble_eq_true rfl) dX3_turn_32 ⟨Nat.le_refl _, Nat.le_refl _⟩) hS (fun _ h => h) (fun r _ H locs r_10 hX _ _ hS => ?_)
      subst r_10
      refine zm_topi (y := X 12 (mHd X p)) (by simp [mN_w, mIs_w, mKc_w, mHd_w, mIi_w, mIn_w, mK_w, mH_w, mM_w, mW_w, zu]) ?_
      refine lv_if_eq (tgt := 42) hx hb dX3_turn_35 (by decide) (fun c_11 => ?_) (fun c_11 => ?_)
      · refine lv_iconst (v := 0) hx hb dX3_turn_42 (by decide) ?_
        refine zx_put hx hb hown hts hK hX hS 0 (by decide) rfl q1021 rfl rfl rfl rfl dX3_turn_43 (fun H locs hX hS => ?_)
        rw [zu_zu] at hX
        refine lv_aload_n hx hb dX3_turn_46 rfl (lv_at hl 0 rfl) ?_
        refine zx_get hx hb hown hts hK hX 0 (by decide) q1021 rfl rfl dX3_turn_47 ?_
        refine zm_topi (y := 0) (by simp [zu]) ?_
        refine lv_if_le (tgt := 55) hx hb dX3_turn_50 (by decide) (fun _ => ?_) (fun c_12 => absurd (by decide) c_12)
        have hin : 0 < mIn X (nI p) 3 := by omega
        obtain ⟨a, ha1, ha2⟩ := mWo_s hI (nI p) false hin
        obtain ⟨b, hb1, hb2⟩ := mWo_s hI (nI p) true hin
        have hca : (mWo X (nI p) false).toNatClampNeg = a := by rw [ha2]; exact nI_clamp (by omega)
        have hcb : (mWo X (nI p) true).toNatClampNeg = b := by rw [hb2]; exact nI_clamp (by omega)
        refine lv_aload_n hx hb dX3_turn_55 rfl (lv_at hl 0 rfl) ?_
        refine lv_iload_n hx hb dX3_turn_56 rfl (lv_at hl 1 rfl) ?_
        refine lv_iconst (v := 0) hx hb dX3_turn_57 (by decide) ?_
        refine zc_i (zr_V (As := [.int (nI p), .int 0]) (rest := []) ⟨hx, hb, hml, hown, hts⟩ (ct_X3_wheelsetOf l g A mo ma (zu X 0 0 0) (nI p) false (hI.w 0 0 0 (by decide) (by decide) (by decide))) zn_X3_wheelsetOf (lw_V q1204 q1206 qs26 q48 q1207) rfl (by decide) (by decide) hK (fun _ h => h) hS hX (zx_recv hK hX) rfl hl.1 (Nat.le_of_ble_eq_true rfl) dX3_turn_58 ⟨Nat.le_refl _, Nat.le_refl _⟩) hS (fun _ h => h) (fun r _ H locs r_13 hX _ _ hS => ?_)
        subst r_13
        refine zm_topi (y := nI a) (by rw [← ha2]; simp [mWo, zwo_w0, mN_w]) ?_
        refine lv_istore_n (lv' := [(2, .int (nI a)), (0, .ref mo), (1, .int (nI p))]) hx hb dX3_turn_61 rfl hl (by decide) rfl (fun ls hl => ?_)
        refine lv_aload_n hx hb dX3_turn_62 rfl (lv_at hl 1 rfl) ?_
        refine lv_iload_n hx hb dX3_turn_63 rfl (lv_at hl 2 rfl) ?_
        refine lv_iconst (v := 1) hx hb dX3_turn_64 (by decide) ?_
        refine zc_i (zr_V (As := [.int (nI p), .int 1]) (rest := []) ⟨hx, hb, hml, hown, hts⟩ (ct_X3_wheelsetOf l g A mo ma (zu X 0 0 0) (nI p) true (hI.w 0 0 0 (by decide) (by decide) (by decide))) zn_X3_wheelsetOf (lw_V q1204 q1206 qs26 q48 q1207) rfl (by decide) (by decide) hK (fun _ h => h) hS hX (zx_recv hK hX) rfl hl.1 (Nat.le_of_ble_eq_true rfl) dX3_turn_65 ⟨Nat.le_refl _, Nat.le_refl _⟩) hS (fun _ h => h) (fun r _ H locs r_14 hX _ _ hS => ?_)
        subst r_14
        refine zm_topi (y := nI b) (by rw [← hb2]; simp [mWo, zwo_w0, mN_w]) ?_
        refine lv_istore_n (lv' := [(3, .int (nI b)), (2, .int (nI a)), (0, .ref mo), (1, .int (nI p))]) hx hb dX3_turn_68 rfl hl (by decide) rfl (fun ls hl => ?_)
        refine lv_aload_n hx hb dX3_turn_69 rfl (lv_at hl 2 rfl) ?_
        refine lv_iload_n hx hb dX3_turn_70 rfl (lv_at hl 1 rfl) ?_
        refine zc_i (zr_V (As := [.int (nI a)]) (rest := []) ⟨hx, hb, hml, hown, hts⟩ (ct_X3_trues l g A mo ma (zu X 0 0 0) a (hI.w 0 0 0 (by decide) (by decide) (by decide)) (by have hz_ := show a < mN X from ha1; simpa [mN_w, m_moves, m_ends, mN_goes, mN_hl, mN_rc, m_trues] using hz_)) zn_X3_trues (lw_V q1208 q1210 qs27 q48 q1211) rfl (by decide) (by decide) hK (fun _ h => h) hS hX (zx_recv hK hX) rfl hl.1 (Nat.le_of_ble_eq_true rfl) dX3_turn_71 ⟨Nat.le_refl _, Nat.le_refl _⟩) hS (fun _ h => h) (fun r _ H locs r_15 hX _ _ hS => ?_)
        subst r_15
        refine lv_aload_n hx hb dX3_turn_74 rfl (lv_at hl 2 rfl) ?_
        refine lv_iload_n hx hb dX3_turn_75 rfl (lv_at hl 0 rfl) ?_
        refine zc_i (zr_V (As := [.int (nI b)]) (rest := [.int ((m_trues (zu X 0 0 0) a).1)]) ⟨hx, hb, hml, hown, hts⟩ (ct_X3_trues l g A mo ma ((m_trues (zu X 0 0 0) a).2) b (((hI.w 0 0 0 (by decide) (by decide) (by decide)).w 13 _ _ (by decide) (by decide) (by decide)).w 14 _ _ (by decide) (by decide) (by decide)) (by have hz_ := show b < mN X from hb1; simpa [mN_w, m_moves, m_ends, mN_goes, mN_hl, mN_rc, m_trues] using hz_)) zn_X3_trues (lw_V q1208 q1210 qs27 q48 q1211) rfl (by decide) (by decide) hK (fun _ h => h) hS hX (zx_recv hK hX) rfl hl.1 (Nat.le_of_ble_eq_true rfl) dX3_turn_76 ⟨Nat.le_refl _, Nat.le_refl _⟩) hS (fun _ h => h) (fun r _ H locs r_16 hX _ _ hS => ?_)
        subst r_16
        have hX : zMX g A mo ma (mTu1 (zu X 0 0 0) a b) H := hX
        refine lv_iadd hx hb dX3_turn_79 ?_
        refine lv_istore (lv' := [(4, .int (((m_trues (zu X 0 0 0) a).1) + ((m_trues ((m_trues (zu X 0 0 0) a).2) b).1))), (3, .int (nI b)), (2, .int (nI a)), (0, .ref mo), (1, .int (nI p))]) hx hb dX3_turn_80 hl (by decide) rfl (fun ls hl => ?_)
        refine lv_aload_n hx hb dX3_turn_82 rfl (lv_at hl 3 rfl) ?_
        refine zx_get hx hb hown hts hK hX 13 (by decide) q1034 rfl rfl dX3_turn_83 ?_
        refine lv_iload_n hx hb dX3_turn_86 rfl (lv_at hl 2 rfl) ?_
        refine zx_ld (i := a) hx hb hK hX 13 rfl rfl (n := 60) rfl (by omega) dX3_turn_87 ?_
        refine lv_aload_n hx hb dX3_turn_88 rfl (lv_at hl 3 rfl) ?_
        refine zx_get hx hb hown hts hK hX 13 (by decide) q1034 rfl rfl dX3_turn_89 ?_
        refine lv_iload_n hx hb dX3_turn_92 rfl (lv_at hl 1 rfl) ?_
        refine zx_ld (i := b) hx hb hK hX 13 rfl rfl (n := 60) rfl (by omega) dX3_turn_93 ?_
        refine lv_icmp_ge (tgt := 106) hx hb dX3_turn_94 (by decide) (fun c_17 => ?_) (fun c_17 => ?_)
        · refine lv_aload_n hx hb dX3_turn_106 rfl (lv_at hl 3 rfl) ?_
          refine zx_get hx hb hown hts hK hX 13 (by decide) q1034 rfl rfl dX3_turn_107 ?_
          refine lv_iload_n hx hb dX3_turn_110 rfl (lv_at hl 1 rfl) ?_
          refine zx_ld (i := b) hx hb hK hX 13 rfl rfl (n := 60) rfl (by omega) dX3_turn_111 ?_
          refine zm_topi (y := mTuL (zu X 0 0 0) a b) (by simp [mTuL, c_17]) ?_
          refine lv_istore (lv' := [(5, .int (mTuL (zu X 0 0 0) a b)), (4, .int (((m_trues (zu X 0 0 0) a).1) + ((m_trues ((m_trues (zu X 0 0 0) a).2) b).1))), (3, .int (nI b)), (2, .int (nI a)), (0, .ref mo), (1, .int (nI p))]) hx hb dX3_turn_112 hl (by decide) rfl (fun ls hl => ?_)
          refine lv_iload hx hb dX3_turn_114 (lv_at hl 1 rfl) ?_
          refine lv_aload_n hx hb dX3_turn_116 rfl (lv_at hl 4 rfl) ?_
          refine zx_get hx hb hown hts hK hX 13 (by decide) q1034 rfl rfl dX3_turn_117 ?_
          refine lv_iload_n hx hb dX3_turn_120 rfl (lv_at hl 3 rfl) ?_
          refine zx_ld (i := a) hx hb hK hX 13 rfl rfl (n := 60) rfl (by omega) dX3_turn_121 ?_
          refine lv_iload hx hb dX3_turn_122 (lv_at hl 0 rfl) ?_
          refine lv_isub hx hb dX3_turn_124 ?_
          refine lv_aload_n hx hb dX3_turn_125 rfl (lv_at hl 4 rfl) ?_
          refine zx_get hx hb hown hts hK hX 13 (by decide) q1034 rfl rfl dX3_turn_126 ?_
          refine lv_iload_n hx hb dX3_turn_129 rfl (lv_at hl 2 rfl) ?_
          refine zx_ld (i := b) hx hb hK hX 13 rfl rfl (n := 60) rfl (by omega) dX3_turn_130 ?_
          refine lv_iadd hx hb dX3_turn_131 ?_
          refine lv_iload hx hb dX3_turn_132 (lv_at hl 0 rfl) ?_
          refine lv_isub hx hb dX3_turn_134 ?_
          refine lv_iadd hx hb dX3_turn_135 ?_
          refine lv_istore (lv' := [(4, .int ((((m_trues (zu X 0 0 0) a).1) + ((m_trues ((m_trues (zu X 0 0 0) a).2) b).1)) + (((((mTu1 (zu X 0 0 0) a b) 13 a) - (mTuL (zu X 0 0 0) a b)) + ((mTu1 (zu X 0 0 0) a b) 13 b)) - (mTuL (zu X 0 0 0) a b)))), (5, .int (mTuL (zu X 0 0 0) a b)), (3, .int (nI b)), (2, .int (nI a)), (0, .ref mo), (1, .int (nI p))]) hx hb dX3_turn_136 hl (by decide) rfl (fun ls hl => ?_)
          refine lv_aload_n hx hb dX3_turn_138 rfl (lv_at hl 4 rfl) ?_
          refine zx_get hx hb hown hts hK hX 13 (by decide) q1034 rfl rfl dX3_turn_139 ?_
          refine lv_iload_n hx hb dX3_turn_142 rfl (lv_at hl 3 rfl) ?_
          refine lv_iload hx hb dX3_turn_143 (lv_at hl 1 rfl) ?_
          refine zx_st (i := a) hx hb hK hX hS 13 rfl rfl (n := 60) rfl (by omega) dX3_turn_145 (fun H locs hX hS => ?_)
          refine lv_aload_n hx hb dX3_turn_146 rfl (lv_at hl 4 rfl) ?_
          refine zx_get hx hb hown hts hK hX 13 (by decide) q1034 rfl rfl dX3_turn_147 ?_
          refine lv_iload_n hx hb dX3_turn_150 rfl (lv_at hl 2 rfl) ?_
          refine lv_iload hx hb dX3_turn_151 (lv_at hl 1 rfl) ?_
          refine zx_st (i := b) hx hb hK hX hS 13 rfl rfl (n := 60) rfl (by omega) dX3_turn_153 (fun H locs hX hS => ?_)
          refine lv_iload hx hb dX3_turn_154 (lv_at hl 0 rfl) ?_
          have e1 : ((((m_trues (zu X 0 0 0) a).1) + ((m_trues ((m_trues (zu X 0 0 0) a).2) b).1)) + (((((mTu1 (zu X 0 0 0) a b) 13 a) - (mTuL (zu X 0 0 0) a b)) + ((mTu1 (zu X 0 0 0) a b) 13 b)) - (mTuL (zu X 0 0 0) a b)) : Int32) = (m_turn X (nI p)).1 := by simp [m_turn, mTu, hca, hcb, hcp, mHd_w, mIn_w, k_2, e_3, c_8, c_11]
          have e2 : zu (zu (mTu1 (zu X 0 0 0) a b) 13 a (mTuL (zu X 0 0 0) a b)) 13 b (mTuL (zu X 0 0 0) a b) = (m_turn X (nI p)).2 := by simp [m_turn, mTu, hca, hcb, hcp, mHd_w, mIn_w, k_2, e_3, c_8, c_11]
          rw [e2] at hX
          exact ze_i hx hb hr hlocks hS dX3_turn_156 (Nat.le_refl _) (Nat.le_refl _) () e1 hX
        · refine lv_aload_n hx hb dX3_turn_97 rfl (lv_at hl 3 rfl) ?_
          refine zx_get hx hb hown hts hK hX 13 (by decide) q1034 rfl rfl dX3_turn_98 ?_
          refine lv_iload_n hx hb dX3_turn_101 rfl (lv_at hl 2 rfl) ?_
          refine zx_ld (i := a) hx hb hK hX 13 rfl rfl (n := 60) rfl (by omega) dX3_turn_102 ?_
          refine lv_goto (tgt := 112) hx hb dX3_turn_103 (by decide) ?_
          refine zm_topi (y := mTuL (zu X 0 0 0) a b) (by simp [mTuL, c_17]) ?_
          refine lv_istore (lv' := [(5, .int (mTuL (zu X 0 0 0) a b)), (4, .int (((m_trues (zu X 0 0 0) a).1) + ((m_trues ((m_trues (zu X 0 0 0) a).2) b).1))), (3, .int (nI b)), (2, .int (nI a)), (0, .ref mo), (1, .int (nI p))]) hx hb dX3_turn_112 hl (by decide) rfl (fun ls hl => ?_)
          refine lv_iload hx hb dX3_turn_114 (lv_at hl 1 rfl) ?_
          refine lv_aload_n hx hb dX3_turn_116 rfl (lv_at hl 4 rfl) ?_
          refine zx_get hx hb hown hts hK hX 13 (by decide) q1034 rfl rfl dX3_turn_117 ?_
          refine lv_iload_n hx hb dX3_turn_120 rfl (lv_at hl 3 rfl) ?_
          refine zx_ld (i := a) hx hb hK hX 13 rfl rfl (n := 60) rfl (by omega) dX3_turn_121 ?_
          refine lv_iload hx hb dX3_turn_122 (lv_at hl 0 rfl) ?_
          refine lv_isub hx hb dX3_turn_124 ?_
          refine lv_aload_n hx hb dX3_turn_125 rfl (lv_at hl 4 rfl) ?_
          refine zx_get hx hb hown hts hK hX 13 (by decide) q1034 rfl rfl dX3_turn_126 ?_
          refine lv_iload_n hx hb dX3_turn_129 rfl (lv_at hl 2 rfl) ?_
          refine zx_ld (i := b) hx hb hK hX 13 rfl rfl (n := 60) rfl (by omega) dX3_turn_130 ?_
          refine lv_iadd hx hb dX3_turn_131 ?_
          refine lv_iload hx hb dX3_turn_132 (lv_at hl 0 rfl) ?_
          refine lv_isub hx hb dX3_turn_134 ?_
          refine lv_iadd hx hb dX3_turn_135 ?_
          refine lv_istore (lv' := [(4, .int ((((m_trues (zu X 0 0 0) a).1) + ((m_trues ((m_trues (zu X 0 0 0) a).2) b).1)) + (((((mTu1 (zu X 0 0 0) a b) 13 a) - (mTuL (zu X 0 0 0) a b)) + ((mTu1 (zu X 0 0 0) a b) 13 b)) - (mTuL (zu X 0 0 0) a b)))), (5, .int (mTuL (zu X 0 0 0) a b)), (3, .int (nI b)), (2, .int (nI a)), (0, .ref mo), (1, .int (nI p))]) hx hb dX3_turn_136 hl (by decide) rfl (fun ls hl => ?_)
          refine lv_aload_n hx hb dX3_turn_138 rfl (lv_at hl 4 rfl) ?_
          refine zx_get hx hb hown hts hK hX 13 (by decide) q1034 rfl rfl dX3_turn_139 ?_
          refine lv_iload_n hx hb dX3_turn_142 rfl (lv_at hl 3 rfl) ?_
          refine lv_iload hx hb dX3_turn_143 (lv_at hl 1 rfl) ?_
          refine zx_st (i := a) hx hb hK hX hS 13 rfl rfl (n := 60) rfl (by omega) dX3_turn_145 (fun H locs hX hS => ?_)
          refine lv_aload_n hx hb dX3_turn_146 rfl (lv_at hl 4 rfl) ?_
          refine zx_get hx hb hown hts hK hX 13 (by decide) q1034 rfl rfl dX3_turn_147 ?_
          refine lv_iload_n hx hb dX3_turn_150 rfl (lv_at hl 2 rfl) ?_
          refine lv_iload hx hb dX3_turn_151 (lv_at hl 1 rfl) ?_
          refine zx_st (i := b) hx hb hK hX hS 13 rfl rfl (n := 60) rfl (by omega) dX3_turn_153 (fun H locs hX hS => ?_)
          refine lv_iload hx hb dX3_turn_154 (lv_at hl 0 rfl) ?_
          have e1 : ((((m_trues (zu X 0 0 0) a).1) + ((m_trues ((m_trues (zu X 0 0 0) a).2) b).1)) + (((((mTu1 (zu X 0 0 0) a b) 13 a) - (mTuL (zu X 0 0 0) a b)) + ((mTu1 (zu X 0 0 0) a b) 13 b)) - (mTuL (zu X 0 0 0) a b)) : Int32) = (m_turn X (nI p)).1 := by simp [m_turn, mTu, hca, hcb, hcp, mHd_w, mIn_w, k_2, e_3, c_8, c_11]
          have e2 : zu (zu (mTu1 (zu X 0 0 0) a b) 13 a (mTuL (zu X 0 0 0) a b)) 13 b (mTuL (zu X 0 0 0) a b) = (m_turn X (nI p)).2 := by simp [m_turn, mTu, hca, hcb, hcp, mHd_w, mIn_w, k_2, e_3, c_8, c_11]
          rw [e2] at hX
          exact ze_i hx hb hr hlocks hS dX3_turn_156 (Nat.le_refl _) (Nat.le_refl _) () e1 hX
      · refine lv_iconst (v := 3) hx hb dX3_turn_38 (by decide) ?_
        refine lv_goto (tgt := 43) hx hb dX3_turn_39 (by decide) ?_
        refine zx_put hx hb hown hts hK hX hS 0 (by decide) rfl q1021 rfl rfl rfl rfl dX3_turn_43 (fun H locs hX hS => ?_)
        rw [zu_zu] at hX
        refine lv_aload_n hx hb dX3_turn_46 rfl (lv_at hl 0 rfl) ?_
        refine zx_get hx hb hown hts hK hX 0 (by decide) q1021 rfl rfl dX3_turn_47 ?_
        refine zm_topi (y := 3) (by simp [zu]) ?_
        refine lv_if_le (tgt := 55) hx hb dX3_turn_50 (by decide) (fun c_18 => absurd c_18 (by decide)) (fun _ => ?_)
        refine lv_iconst (v := 0) hx hb dX3_turn_53 (by decide) ?_
        have e1 : (0 : Int32) = (m_turn X (nI p)).1 := by simp [m_turn, mHd_w, mIn_w, zu_zu, hcp, k_2, e_3, c_8, c_11]
        have e2 : zu X 0 0 3 = (m_turn X (nI p)).2 := by simp [m_turn, mHd_w, mIn_w, zu_zu, hcp, k_2, e_3, c_8, c_11]
        rw [e2] at hX
        exact ze_i hx hb hr hlocks hS dX3_turn_54 (Nat.le_refl _) (Nat.le_refl _) () e1 hX
theorem zn_X3_hasEmpty : zN yX3_hasEmpty 1 := by decide +kernel
set_option maxHeartbeats 4000000 in
theorem ct_X3_hasEmpty (l : Launch) (g : zG) (A : Nat → Prop) (mo : Nat) (ma : Nat → Nat) (X : zX) (q : Nat) (hI : MH X) (hq : q < mN X) : Met l yX3_hasEmpty (ws_ yX3_hasEmpty cX3_hasEmpty 2 (some .boolean)) (zR 2 0 0) (zP [.ref mo, .int (nI q)] g A (zMX g A mo ma X)) (va_Qi (fun rz_ (_ : Unit) => rz_ = zb (mHe X q)) (fun (_ : Unit) t => zMX g A mo ma X t.heap) A) 0 0 A := by
  refine zb_met (by decide) (Nat.le_of_ble_eq_true rfl) ?_
  intro p e s m args below meth c ls hx hb hr hml hown hts hlocks hnm hK hX ha hl
  have hown : s.vm.findClass RX3 = some m.cls := hown
  have hS : va_S A s.heap s.heap [] := va_S.rf
  have hl : lv_has ls 2 [(0, .ref mo), (1, .int (nI q))] := hl
  have hn60 := hI.1.2
  refine lv_aload_n hx hb dX3_hasEmpty_0 rfl (lv_at hl 0 rfl) ?_
  refine zx_get hx hb hown hts hK hX 2 (by decide) q1023 rfl rfl dX3_hasEmpty_1 ?_
  refine lv_iload_n hx hb dX3_hasEmpty_4 rfl (lv_at hl 1 rfl) ?_
  refine zx_ld (i := q) hx hb hK hX 2 rfl rfl (n := 60) rfl (by omega) dX3_hasEmpty_5 ?_
  refine lv_iconst (v := 2) hx hb dX3_hasEmpty_6 (by decide) ?_
  refine lv_icmp_ne (tgt := 26) hx hb dX3_hasEmpty_7 (by decide) (fun c_1 => ?_) (fun c_1 => ?_)
  · refine lv_aload_n hx hb dX3_hasEmpty_26 rfl (lv_at hl 0 rfl) ?_
    refine zx_get hx hb hown hts hK hX 2 (by decide) q1023 rfl rfl dX3_hasEmpty_27 ?_
    refine lv_iload_n hx hb dX3_hasEmpty_30 rfl (lv_at hl 1 rfl) ?_
    refine zx_ld (i := q) hx hb hK hX 2 rfl rfl (n := 60) rfl (by omega) dX3_hasEmpty_31 ?_
    refine lv_iconst (v := 2) hx hb dX3_hasEmpty_32 (by decide) ?_
    refine lv_icmp_ge (tgt := 50) hx hb dX3_hasEmpty_33 (by decide) (fun c_2 => ?_) (fun c_2 => ?_)
    · refine lv_iconst (v := 0) hx hb dX3_hasEmpty_50 (by decide) ?_
      have e1 : (0 : Int32) = zb (mHe X q) := by first | rfl | (simp [mHe, zb, c_1, c_2])
      exact ze_z hx hb hr hlocks hS dX3_hasEmpty_51 (Nat.le_refl _) (Nat.le_refl _) (Or.inl rfl) () e1 hX
    · refine lv_aload_n hx hb dX3_hasEmpty_36 rfl (lv_at hl 0 rfl) ?_
      refine lv_iload_n hx hb dX3_hasEmpty_37 rfl (lv_at hl 1 rfl) ?_
      refine lv_iconst (v := (-1)) hx hb dX3_hasEmpty_38 (by decide) ?_
      refine zc_i (zr_V (As := [.int (nI q), .int (-1)]) (rest := []) ⟨hx, hb, hml, hown, hts⟩ (ct_X3_inside l g A mo ma X (nI q) (-1) hI) zn_X3_inside (lw_V q1157 q1159 qs19 q48 q1160) rfl (by decide) (by decide) hK (fun _ h => h) hS hX (zx_recv hK hX) rfl hl.1 (Nat.le_of_ble_eq_true rfl) dX3_hasEmpty_39 ⟨Nat.le_refl _, Nat.le_refl _⟩) hS (fun _ h => h) (fun r _ H locs r_3 hX _ _ hS => ?_)
      subst r_3
      refine lv_iconst (v := 2) hx hb dX3_hasEmpty_42 (by decide) ?_
      refine zl_ge (tgt := 50) (a := mIn X (nI q) (-1)) (b := 2) hx hb (Nat.lt_of_le_of_lt (mIn_le _ _ _) (by omega)) (by first | decide | omega) dX3_hasEmpty_43 (by decide) (fun c_4 => ?_) (fun c_4 => ?_)
      · refine lv_iconst (v := 0) hx hb dX3_hasEmpty_50 (by decide) ?_
        have e1 : (0 : Int32) = zb (mHe X q) := by first | rfl | (simp [mHe, zb, c_1, c_2, c_4])
        exact ze_z hx hb hr hlocks hS dX3_hasEmpty_51 (Nat.le_refl _) (Nat.le_refl _) (Or.inl rfl) () e1 hX
      · refine lv_iconst (v := 1) hx hb dX3_hasEmpty_46 (by decide) ?_
        refine lv_goto (tgt := 51) hx hb dX3_hasEmpty_47 (by decide) ?_
        have e1 : (1 : Int32) = zb (mHe X q) := by first | rfl | (simp [mHe, zb, c_1, c_2, c_4])
        exact ze_z hx hb hr hlocks hS dX3_hasEmpty_51 (Nat.le_refl _) (Nat.le_refl _) (Or.inr rfl) () e1 hX
  · refine lv_aload_n hx hb dX3_hasEmpty_10 rfl (lv_at hl 0 rfl) ?_
    refine lv_iload_n hx hb dX3_hasEmpty_11 rfl (lv_at hl 1 rfl) ?_
    refine lv_iconst (v := (-1)) hx hb dX3_hasEmpty_12 (by decide) ?_
    refine zc_i (zr_V (As := [.int (nI q), .int (-1)]) (rest := []) ⟨hx, hb, hml, hown, hts⟩ (ct_X3_inside l g A mo ma X (nI q) (-1) hI) zn_X3_inside (lw_V q1157 q1159 qs19 q48 q1160) rfl (by decide) (by decide) hK (fun _ h => h) hS hX (zx_recv hK hX) rfl hl.1 (Nat.le_of_ble_eq_true rfl) dX3_hasEmpty_13 ⟨Nat.le_refl _, Nat.le_refl _⟩) hS (fun _ h => h) (fun r _ H locs r_5 hX _ _ hS => ?_)
    subst r_5
    refine lv_iconst (v := 3) hx hb dX3_hasEmpty_16 (by decide) ?_
    refine zl_ge (tgt := 24) (a := mIn X (nI q) (-1)) (b := 3) hx hb (Nat.lt_of_le_of_lt (mIn_le _ _ _) (by omega)) (by first | decide | omega) dX3_hasEmpty_17 (by decide) (fun c_6 => ?_) (fun c_6 => ?_)
    · refine lv_iconst (v := 0) hx hb dX3_hasEmpty_24 (by decide) ?_
      have e1 : (0 : Int32) = zb (mHe X q) := by first | rfl | (simp [mHe, zb, c_1, c_6])
      exact ze_z hx hb hr hlocks hS dX3_hasEmpty_25 (Nat.le_refl _) (Nat.le_refl _) (Or.inl rfl) () e1 hX
    · refine lv_iconst (v := 1) hx hb dX3_hasEmpty_20 (by decide) ?_
      refine lv_goto (tgt := 25) hx hb dX3_hasEmpty_21 (by decide) ?_
      have e1 : (1 : Int32) = zb (mHe X q) := by first | rfl | (simp [mHe, zb, c_1, c_6])
      exact ze_z hx hb hr hlocks hS dX3_hasEmpty_25 (Nat.le_refl _) (Nat.le_refl _) (Or.inr rfl) () e1 hX
theorem zn_X3_isWorn : zN yX3_isWorn 1 := by decide +kernel
set_option maxHeartbeats 4000000 in
theorem ct_X3_isWorn (l : Launch) (g : zG) (A : Nat → Prop) (mo : Nat) (ma : Nat → Nat) (X : zX) (q : Nat) (hI : MH X) (hq : q < mN X) : Met l yX3_isWorn (ws_ yX3_isWorn cX3_isWorn 2 (some .boolean)) (zR 1 0 0) (zP [.ref mo, .int (nI q)] g A (zMX g A mo ma X)) (va_Qi (fun rz_ (_ : Unit) => rz_ = zb (mWn X q)) (fun (_ : Unit) t => zMX g A mo ma X t.heap) A) 0 0 A := by
  refine zb_met (by decide) (Nat.le_of_ble_eq_true rfl) ?_
  intro p e s m args below meth c ls hx hb hr hml hown hts hlocks hnm hK hX ha hl
  have hown : s.vm.findClass RX3 = some m.cls := hown
  have hS : va_S A s.heap s.heap [] := va_S.rf
  have hl : lv_has ls 2 [(0, .ref mo), (1, .int (nI q))] := hl
  have hn60 := hI.1.2
  refine lv_aload_n hx hb dX3_isWorn_0 rfl (lv_at hl 0 rfl) ?_
  refine zx_get hx hb hown hts hK hX 2 (by decide) q1023 rfl rfl dX3_isWorn_1 ?_
  refine lv_iload_n hx hb dX3_isWorn_4 rfl (lv_at hl 1 rfl) ?_
  refine zx_ld (i := q) hx hb hK hX 2 rfl rfl (n := 60) rfl (by omega) dX3_isWorn_5 ?_
  refine lv_iconst (v := 3) hx hb dX3_isWorn_6 (by decide) ?_
  refine lv_icmp_ne (tgt := 38) hx hb dX3_isWorn_7 (by decide) (fun c_1 => ?_) (fun c_1 => ?_)
  · refine lv_iconst (v := 0) hx hb dX3_isWorn_38 (by decide) ?_
    have e1 : (0 : Int32) = zb (mWn X q) := by first | rfl | (simp [mWn, zb, c_1])
    exact ze_z hx hb hr hlocks hS dX3_isWorn_39 (Nat.le_refl _) (Nat.le_refl _) (Or.inl rfl) () e1 hX
  · refine lv_aload_n hx hb dX3_isWorn_10 rfl (lv_at hl 0 rfl) ?_
    refine zx_get hx hb hown hts hK hX 13 (by decide) q1034 rfl rfl dX3_isWorn_11 ?_
    refine lv_iload_n hx hb dX3_isWorn_14 rfl (lv_at hl 1 rfl) ?_
    refine zx_ld (i := q) hx hb hK hX 13 rfl rfl (n := 60) rfl (by omega) dX3_isWorn_15 ?_
    refine lv_sipush (v := 8500) hx hb dX3_isWorn_16 (by decide) ?_
    refine lv_icmp_lt (tgt := 34) hx hb dX3_isWorn_19 (by decide) (fun c_2 => ?_) (fun c_2 => ?_)
    · refine lv_iconst (v := 1) hx hb dX3_isWorn_34 (by decide) ?_
      refine lv_goto (tgt := 39) hx hb dX3_isWorn_35 (by decide) ?_
      have e1 : (1 : Int32) = zb (mWn X q) := by first | rfl | (simp [mWn, zb, c_1, c_2])
      exact ze_z hx hb hr hlocks hS dX3_isWorn_39 (Nat.le_refl _) (Nat.le_refl _) (Or.inr rfl) () e1 hX
    · refine lv_aload_n hx hb dX3_isWorn_22 rfl (lv_at hl 0 rfl) ?_
      refine zx_get hx hb hown hts hK hX 14 (by decide) q1035 rfl rfl dX3_isWorn_23 ?_
      refine lv_iload_n hx hb dX3_isWorn_26 rfl (lv_at hl 1 rfl) ?_
      refine zx_ld (i := q) hx hb hK hX 14 rfl rfl (n := 60) rfl (by omega) dX3_isWorn_27 ?_
      refine lv_sipush (v := 250) hx hb dX3_isWorn_28 (by decide) ?_
      refine lv_icmp_ge (tgt := 38) hx hb dX3_isWorn_31 (by decide) (fun c_3 => ?_) (fun c_3 => ?_)
      · refine lv_iconst (v := 0) hx hb dX3_isWorn_38 (by decide) ?_
        have e1 : (0 : Int32) = zb (mWn X q) := by first | rfl | (simp [mWn, zb, c_1, c_2, c_3])
        exact ze_z hx hb hr hlocks hS dX3_isWorn_39 (Nat.le_refl _) (Nat.le_refl _) (Or.inl rfl) () e1 hX
      · refine lv_iconst (v := 1) hx hb dX3_isWorn_34 (by decide) ?_
        refine lv_goto (tgt := 39) hx hb dX3_isWorn_35 (by decide) ?_
        have e1 : (1 : Int32) = zb (mWn X q) := by first | rfl | (simp [mWn, zb, c_1, c_2, c_3])
        exact ze_z hx hb hr hlocks hS dX3_isWorn_39 (Nat.le_refl _) (Nat.le_refl _) (Or.inr rfl) () e1 hX
theorem zn_X3_isDue : zN yX3_isDue 1 := by decide +kernel
set_option maxHeartbeats 4000000 in
theorem ct_X3_isDue (l : Launch) (g : zG) (A : Nat → Prop) (mo : Nat) (ma : Nat → Nat) (X : zX) (q : Nat) (hI : MH X) (hq : q < mN X) : Met l yX3_isDue (ws_ yX3_isDue cX3_isDue 3 (some .boolean)) (zR 1 0 0) (zP [.ref mo, .int (nI q)] g A (zMX g A mo ma X)) (va_Qi (fun rz_ (_ : Unit) => rz_ = zb (mDu X q)) (fun (_ : Unit) t => zMX g A mo ma X t.heap) A) 0 0 A := by
  refine zb_met (by decide) (Nat.le_of_ble_eq_true rfl) ?_
  intro p e s m args below meth c ls hx hb hr hml hown hts hlocks hnm hK hX ha hl
  have hown : s.vm.findClass RX3 = some m.cls := hown
  have hS : va_S A s.heap s.heap [] := va_S.rf
  have hl : lv_has ls 3 [(0, .ref mo), (1, .int (nI q))] := hl
  have hn60 := hI.1.2
  have hk4 := (hI.2.1 _ hq).2
  refine lv_aload_n hx hb dX3_isDue_0 rfl (lv_at hl 0 rfl) ?_
  refine zx_get hx hb hown hts hK hX 21 (by decide) q1042 rfl rfl dX3_isDue_1 ?_
  refine lv_aload_n hx hb dX3_isDue_4 rfl (lv_at hl 0 rfl) ?_
  refine zx_get hx hb hown hts hK hX 2 (by decide) q1023 rfl rfl dX3_isDue_5 ?_
  refine lv_iload_n hx hb dX3_isDue_8 rfl (lv_at hl 1 rfl) ?_
  refine zx_ld (i := q) hx hb hK hX 2 rfl rfl (n := 60) rfl (by omega) dX3_isDue_9 ?_
  refine zm_topi (y := nI (mK X q)) ((hI.2.1 _ (by assumption)).1) ?_
  refine zx_ld (i := mK X q) hx hb hK hX 21 rfl rfl (n := 5) rfl (by omega) dX3_isDue_10 ?_
  refine lv_istore_n (lv' := [(2, .int (X 21 (mK X q))), (0, .ref mo), (1, .int (nI q))]) hx hb dX3_isDue_11 rfl hl (by decide) rfl (fun ls hl => ?_)
  refine lv_iload_n hx hb dX3_isDue_12 rfl (lv_at hl 0 rfl) ?_
  refine lv_if_le (tgt := 37) hx hb dX3_isDue_13 (by decide) (fun c_1 => ?_) (fun c_1 => ?_)
  · refine lv_iconst (v := 0) hx hb dX3_isDue_37 (by decide) ?_
    have e1 : (0 : Int32) = zb (mDu X q) := by first | rfl | (simp [mDu, zb, c_1])
    exact ze_z hx hb hr hlocks hS dX3_isDue_38 (Nat.le_refl _) (Nat.le_refl _) (Or.inl rfl) () e1 hX
  · refine lv_aload_n hx hb dX3_isDue_16 rfl (lv_at hl 1 rfl) ?_
    refine zx_get hx hb hown hts hK hX 7 (by decide) q1028 rfl rfl dX3_isDue_17 ?_
    refine lv_iload_n hx hb dX3_isDue_20 rfl (lv_at hl 2 rfl) ?_
    refine zx_ld (i := q) hx hb hK hX 7 rfl rfl (n := 60) rfl (by omega) dX3_isDue_21 ?_
    refine lv_iload_n hx hb dX3_isDue_22 rfl (lv_at hl 0 rfl) ?_
    refine lv_aload_n hx hb dX3_isDue_23 rfl (lv_at hl 1 rfl) ?_
    refine zx_get hx hb hown hts hK hX 8 (by decide) q1029 rfl rfl dX3_isDue_24 ?_
    refine lv_iload_n hx hb dX3_isDue_27 rfl (lv_at hl 2 rfl) ?_
    refine zx_ld (i := q) hx hb hK hX 8 rfl rfl (n := 60) rfl (by omega) dX3_isDue_28 ?_
    refine lv_iadd hx hb dX3_isDue_29 ?_
    refine lv_icmp_le (tgt := 37) hx hb dX3_isDue_30 (by decide) (fun c_2 => ?_) (fun c_2 => ?_)
    · refine lv_iconst (v := 0) hx hb dX3_isDue_37 (by decide) ?_
      have e1 : (0 : Int32) = zb (mDu X q) := by first | rfl | (simp [mDu, zb, c_1, c_2])
      exact ze_z hx hb hr hlocks hS dX3_isDue_38 (Nat.le_refl _) (Nat.le_refl _) (Or.inl rfl) () e1 hX
    · refine lv_iconst (v := 1) hx hb dX3_isDue_33 (by decide) ?_
      refine lv_goto (tgt := 38) hx hb dX3_isDue_34 (by decide) ?_
      have e1 : (1 : Int32) = zb (mDu X q) := by first | rfl | (simp [mDu, zb, c_1, c_2])
      exact ze_z hx hb hr hlocks hS dX3_isDue_38 (Nat.le_refl _) (Nat.le_refl _) (Or.inr rfl) () e1 hX
theorem zn_X3_apartIn : zN yX3_apartIn 1 := by decide +kernel
set_option maxHeartbeats 4000000 in
theorem ct_X3_apartIn (l : Launch) (g : zG) (A : Nat → Prop) (mo : Nat) (ma : Nat → Nat) (X : zX) (q : Nat) (hI : MH X) (hq : q < 60) : Met l yX3_apartIn (ws_ yX3_apartIn cX3_apartIn 6 (some .int)) (zR 1 0 0) (zP [.ref mo, .int (nI q)] g A (zMX g A mo ma X)) (va_Qi (fun rz_ (_ : Unit) => rz_ = mAp X q) (fun (_ : Unit) t => zMX g A mo ma X t.heap) A) 0 0 A := by
  refine zb_met (by decide) (Nat.le_of_ble_eq_true rfl) ?_
  intro p e s m args below meth c ls hx hb hr hml hown hts hlocks hnm hK hX ha hl
  have hown : s.vm.findClass RX3 = some m.cls := hown
  have hS : va_S A s.heap s.heap [] := va_S.rf
  have hl : lv_has ls 6 [(0, .ref mo), (1, .int (nI q))] := hl
  have hn60 := hI.1.2
  refine lv_ldc (v := 1000000) hx hb hown (hts _ q1268) dX3_apartIn_0 ?_
  refine lv_istore_n (lv' := [(2, .int 1000000), (0, .ref mo), (1, .int (nI q))]) hx hb dX3_apartIn_2 rfl hl (by decide) rfl (fun ls hl => ?_)
  refine lv_ldc (v := (-1000000)) hx hb hown (hts _ q1269) dX3_apartIn_3 ?_
  refine lv_istore_n (lv' := [(3, .int (-1000000)), (2, .int 1000000), (0, .ref mo), (1, .int (nI q))]) hx hb dX3_apartIn_5 rfl hl (by decide) rfl (fun ls hl => ?_)
  refine lv_iconst (v := 0) hx hb dX3_apartIn_6 (by decide) ?_
  refine lv_istore (lv' := [(4, .int 0), (3, .int (-1000000)), (2, .int 1000000), (0, .ref mo), (1, .int (nI q))]) hx hb dX3_apartIn_7 hl (by decide) rfl (fun ls hl => ?_)
  have L_2 : ∀ (n_1 : Nat) (j : Nat), mN X + 1 - j < n_1 → (j ≤ mN X) → ∀ (H : Heap) (locs : List Loc) (ls : Array Slot), zMX g A mo ma X H → va_S A s.heap H locs → lv_has ls 6 [(4, .int (nI j)), (3, .int ((zap X q j).2)), (2, .int ((zap X q j).1)), (0, .ref mo), (1, .int (nI q))] → W p l e (zR 1 0 0) s m args below meth c H locs 0 0 (MQ below (va_Qi (fun rz_ (_ : Unit) => rz_ = mAp X q) (fun (_ : Unit) t => zMX g A mo ma X t.heap) A) args s 0 0 A) (F0 m 9 ls []) := by
    intro n_1
    induction n_1 with
    | zero => intro j hm; exact absurd hm (Nat.not_lt_zero _)
    | succ n_1 ih =>
      intro j hm hj H locs ls hX hS hl
      have ih_3 := ih
      refine lv_iload hx hb dX3_apartIn_9 (lv_at hl 0 rfl) ?_
      refine lv_aload_n hx hb dX3_apartIn_11 rfl (lv_at hl 3 rfl) ?_
      refine zx_get hx hb hown hts hK hX 1 (by decide) q1022 rfl rfl dX3_apartIn_12 ?_
      refine zm_topi (y := nI (mN X)) (hI.1.1) ?_
      refine zl_ge (tgt := 135) (a := j) (b := mN X) hx hb (by first | decide | omega) (by first | decide | omega) dX3_apartIn_15 (by decide) (fun c_4 => ?_) (fun c_4 => ?_)
      · refine lv_iload_n hx hb dX3_apartIn_135 rfl (lv_at hl 1 rfl) ?_
        refine lv_iload_n hx hb dX3_apartIn_136 rfl (lv_at hl 2 rfl) ?_
        refine lv_isub hx hb dX3_apartIn_137 ?_
        have e1 : (((zap X q j).2) - ((zap X q j).1) : Int32) = mAp X q := by have q2 : j = mN X := (by omega); subst q2; rfl
        exact ze_i hx hb hr hlocks hS dX3_apartIn_138 (Nat.le_refl _) (Nat.le_refl _) () e1 hX
      · refine lv_aload_n hx hb dX3_apartIn_18 rfl (lv_at hl 3 rfl) ?_
        refine zx_get hx hb hown hts hK hX 2 (by decide) q1023 rfl rfl dX3_apartIn_19 ?_
        refine lv_iload hx hb dX3_apartIn_22 (lv_at hl 0 rfl) ?_
        refine zx_ld (i := j) hx hb hK hX 2 rfl rfl (n := 60) rfl (by omega) dX3_apartIn_24 ?_
        refine lv_iconst (v := 3) hx hb dX3_apartIn_25 (by decide) ?_
        refine lv_icmp_ne (tgt := 70) hx hb dX3_apartIn_26 (by decide) (fun c_5 => ?_) (fun c_5 => ?_)
        · refine lv_iconst (v := 0) hx hb dX3_apartIn_70 (by decide) ?_
          have hai : mAi X q j = false := by simp [mAi, c_4, c_5]
          refine lv_istore (lv' := [(5, .int 0), (4, .int (nI j)), (3, .int ((zap X q j).2)), (2, .int ((zap X q j).1)), (0, .ref mo), (1, .int (nI q))]) hx hb dX3_apartIn_71 hl (by decide) rfl (fun ls hl => ?_)
          refine lv_iload hx hb dX3_apartIn_73 (lv_at hl 0 rfl) ?_
          refine lv_if_eq (tgt := 99) hx hb dX3_apartIn_75 (by decide) (fun _ => ?_) (fun c_6 => absurd (by decide) c_6)
          refine lv_iload_n hx hb dX3_apartIn_99 rfl (lv_at hl 3 rfl) ?_
          refine zm_topi (y := (zap X q (j + 1)).1) (by simp [zap, hai, c_4, c_5]) ?_
          refine lv_istore_n (lv' := [(2, .int ((zap X q (j + 1)).1)), (5, .int 0), (4, .int (nI j)), (3, .int ((zap X q j).2)), (0, .ref mo), (1, .int (nI q))]) hx hb dX3_apartIn_100 rfl hl (by decide) rfl (fun ls hl => ?_)
          refine lv_iload hx hb dX3_apartIn_101 (lv_at hl 1 rfl) ?_
          refine lv_if_eq (tgt := 127) hx hb dX3_apartIn_103 (by decide) (fun _ => ?_) (fun c_7 => absurd (by decide) c_7)
          refine lv_iload_n hx hb dX3_apartIn_127 rfl (lv_at hl 3 rfl) ?_
          refine zm_topi (y := (zap X q (j + 1)).2) (by simp [zap, hai, c_4, c_5]) ?_
          refine lv_istore_n (lv' := [(3, .int ((zap X q (j + 1)).2)), (2, .int ((zap X q (j + 1)).1)), (5, .int 0), (4, .int (nI j)), (0, .ref mo), (1, .int (nI q))]) hx hb dX3_apartIn_128 rfl hl (by decide) rfl (fun ls hl => ?_)
          refine lv_iinc (v := nI (j + 1)) (lv' := [(4, .int (nI (j + 1))), (3, .int ((zap X q (j + 1)).2)), (2, .int ((zap X q (j + 1)).1)), (5, .int 0), (0, .ref mo), (1, .int (nI q))]) hx hb dX3_apartIn_129 hl (k := 3) rfl (nI_1 j) (by decide) rfl (fun ls hl => ?_)
          refine lv_goto (tgt := 9) hx hb dX3_apartIn_132 (by decide) ?_
          exact ih_3 (j + 1) (by omega) (by omega) _ _ _ hX hS (lv_sub hl [0, 1, 2, 4, 5] rfl)
        · refine lv_aload_n hx hb dX3_apartIn_29 rfl (lv_at hl 3 rfl) ?_
          refine zx_get hx hb hown hts hK hX 5 (by decide) q1026 rfl rfl dX3_apartIn_30 ?_
          refine lv_iload hx hb dX3_apartIn_33 (lv_at hl 0 rfl) ?_
          refine zx_ld (i := j) hx hb hK hX 5 rfl rfl (n := 60) rfl (by omega) dX3_apartIn_35 ?_
          refine lv_if_lt (tgt := 70) hx hb dX3_apartIn_36 (by decide) (fun c_8 => ?_) (fun c_8 => ?_)
          · refine lv_iconst (v := 0) hx hb dX3_apartIn_70 (by decide) ?_
            have hai : mAi X q j = false := by simp [mAi, c_4, c_5, c_8]
            refine lv_istore (lv' := [(5, .int 0), (4, .int (nI j)), (3, .int ((zap X q j).2)), (2, .int ((zap X q j).1)), (0, .ref mo), (1, .int (nI q))]) hx hb dX3_apartIn_71 hl (by decide) rfl (fun ls hl => ?_)
            refine lv_iload hx hb dX3_apartIn_73 (lv_at hl 0 rfl) ?_
            refine lv_if_eq (tgt := 99) hx hb dX3_apartIn_75 (by decide) (fun _ => ?_) (fun c_9 => absurd (by decide) c_9)
            refine lv_iload_n hx hb dX3_apartIn_99 rfl (lv_at hl 3 rfl) ?_
            refine zm_topi (y := (zap X q (j + 1)).1) (by simp [zap, hai, c_4, c_5, c_8]) ?_
            refine lv_istore_n (lv' := [(2, .int ((zap X q (j + 1)).1)), (5, .int 0), (4, .int (nI j)), (3, .int ((zap X q j).2)), (0, .ref mo), (1, .int (nI q))]) hx hb dX3_apartIn_100 rfl hl (by decide) rfl (fun ls hl => ?_)
            refine lv_iload hx hb dX3_apartIn_101 (lv_at hl 1 rfl) ?_
            refine lv_if_eq (tgt := 127) hx hb dX3_apartIn_103 (by decide) (fun _ => ?_) (fun c_10 => absurd (by decide) c_10)
            refine lv_iload_n hx hb dX3_apartIn_127 rfl (lv_at hl 3 rfl) ?_
            refine zm_topi (y := (zap X q (j + 1)).2) (by simp [zap, hai, c_4, c_5, c_8]) ?_
            refine lv_istore_n (lv' := [(3, .int ((zap X q (j + 1)).2)), (2, .int ((zap X q (j + 1)).1)), (5, .int 0), (4, .int (nI j)), (0, .ref mo), (1, .int (nI q))]) hx hb dX3_apartIn_128 rfl hl (by decide) rfl (fun ls hl => ?_)
            refine lv_iinc (v := nI (j + 1)) (lv' := [(4, .int (nI (j + 1))), (3, .int ((zap X q (j + 1)).2)), (2, .int ((zap X q (j + 1)).1)), (5, .int 0), (0, .ref mo), (1, .int (nI q))]) hx hb dX3_apartIn_129 hl (k := 3) rfl (nI_1 j) (by decide) rfl (fun ls hl => ?_)
            refine lv_goto (tgt := 9) hx hb dX3_apartIn_132 (by decide) ?_
            exact ih_3 (j + 1) (by omega) (by omega) _ _ _ hX hS (lv_sub hl [0, 1, 2, 4, 5] rfl)
          · refine lv_aload_n hx hb dX3_apartIn_39 rfl (lv_at hl 3 rfl) ?_
            refine zx_get hx hb hown hts hK hX 5 (by decide) q1026 rfl rfl dX3_apartIn_40 ?_
            refine lv_iload hx hb dX3_apartIn_43 (lv_at hl 0 rfl) ?_
            refine zx_ld (i := j) hx hb hK hX 5 rfl rfl (n := 60) rfl (by omega) dX3_apartIn_45 ?_
            refine lv_iload_n hx hb dX3_apartIn_46 rfl (lv_at hl 4 rfl) ?_
            refine lv_icmp_eq (tgt := 66) hx hb dX3_apartIn_47 (by decide) (fun c_11 => ?_) (fun c_11 => ?_)
            · refine lv_iconst (v := 1) hx hb dX3_apartIn_66 (by decide) ?_
              refine lv_goto (tgt := 71) hx hb dX3_apartIn_67 (by decide) ?_
              have hai : mAi X q j = true := by simp [mAi, c_5, c_8]; first | exact Or.inl c_11 | exact Or.inr c_11
              refine lv_istore (lv' := [(5, .int 1), (4, .int (nI j)), (3, .int ((zap X q j).2)), (2, .int ((zap X q j).1)), (0, .ref mo), (1, .int (nI q))]) hx hb dX3_apartIn_71 hl (by decide) rfl (fun ls hl => ?_)
              refine lv_iload hx hb dX3_apartIn_73 (lv_at hl 0 rfl) ?_
              refine lv_if_eq (tgt := 99) hx hb dX3_apartIn_75 (by decide) (fun c_12 => absurd c_12 (by decide)) (fun _ => ?_)
              refine lv_aload_n hx hb dX3_apartIn_78 rfl (lv_at hl 4 rfl) ?_
              refine zx_get hx hb hown hts hK hX 13 (by decide) q1034 rfl rfl dX3_apartIn_79 ?_
              refine lv_iload hx hb dX3_apartIn_82 (lv_at hl 1 rfl) ?_
              refine zx_ld (i := j) hx hb hK hX 13 rfl rfl (n := 60) rfl (by omega) dX3_apartIn_84 ?_
              refine lv_iload_n hx hb dX3_apartIn_85 rfl (lv_at hl 3 rfl) ?_
              refine lv_icmp_ge (tgt := 99) hx hb dX3_apartIn_86 (by decide) (fun c_13 => ?_) (fun c_13 => ?_)
              · refine lv_iload_n hx hb dX3_apartIn_99 rfl (lv_at hl 3 rfl) ?_
                refine zm_topi (y := (zap X q (j + 1)).1) (by simp [zap, hai, c_4, c_5, c_8, c_11, c_13]) ?_
                refine lv_istore_n (lv' := [(2, .int ((zap X q (j + 1)).1)), (5, .int 1), (4, .int (nI j)), (3, .int ((zap X q j).2)), (0, .ref mo), (1, .int (nI q))]) hx hb dX3_apartIn_100 rfl hl (by decide) rfl (fun ls hl => ?_)
                refine lv_iload hx hb dX3_apartIn_101 (lv_at hl 1 rfl) ?_
                refine lv_if_eq (tgt := 127) hx hb dX3_apartIn_103 (by decide) (fun c_14 => absurd c_14 (by decide)) (fun _ => ?_)
                refine lv_aload_n hx hb dX3_apartIn_106 rfl (lv_at hl 4 rfl) ?_
                refine zx_get hx hb hown hts hK hX 13 (by decide) q1034 rfl rfl dX3_apartIn_107 ?_
                refine lv_iload hx hb dX3_apartIn_110 (lv_at hl 2 rfl) ?_
                refine zx_ld (i := j) hx hb hK hX 13 rfl rfl (n := 60) rfl (by omega) dX3_apartIn_112 ?_
                refine lv_iload_n hx hb dX3_apartIn_113 rfl (lv_at hl 3 rfl) ?_
                refine lv_icmp_le (tgt := 127) hx hb dX3_apartIn_114 (by decide) (fun c_15 => ?_) (fun c_15 => ?_)
                · refine lv_iload_n hx hb dX3_apartIn_127 rfl (lv_at hl 3 rfl) ?_
                  refine zm_topi (y := (zap X q (j + 1)).2) (by simp [zap, hai, c_4, c_5, c_8, c_11, c_13, c_15]) ?_
                  refine lv_istore_n (lv' := [(3, .int ((zap X q (j + 1)).2)), (2, .int ((zap X q (j + 1)).1)), (5, .int 1), (4, .int (nI j)), (0, .ref mo), (1, .int (nI q))]) hx hb dX3_apartIn_128 rfl hl (by decide) rfl (fun ls hl => ?_)
                  refine lv_iinc (v := nI (j + 1)) (lv' := [(4, .int (nI (j + 1))), (3, .int ((zap X q (j + 1)).2)), (2, .int ((zap X q (j + 1)).1)), (5, .int 1), (0, .ref mo), (1, .int (nI q))]) hx hb dX3_apartIn_129 hl (k := 3) rfl (nI_1 j) (by decide) rfl (fun ls hl => ?_)
                  refine lv_goto (tgt := 9) hx hb dX3_apartIn_132 (by decide) ?_
                  exact ih_3 (j + 1) (by omega) (by omega) _ _ _ hX hS (lv_sub hl [0, 1, 2, 4, 5] rfl)
                · refine lv_aload_n hx hb dX3_apartIn_117 rfl (lv_at hl 4 rfl) ?_
                  refine zx_get hx hb hown hts hK hX 13 (by decide) q1034 rfl rfl dX3_apartIn_118 ?_
                  refine lv_iload hx hb dX3_apartIn_121 (lv_at hl 2 rfl) ?_
                  refine zx_ld (i := j) hx hb hK hX 13 rfl rfl (n := 60) rfl (by omega) dX3_apartIn_123 ?_
                  refine lv_goto (tgt := 128) hx hb dX3_apartIn_124 (by decide) ?_
                  refine zm_topi (y := (zap X q (j + 1)).2) (by simp [zap, hai, c_4, c_5, c_8, c_11, c_13, c_15]) ?_
                  refine lv_istore_n (lv' := [(3, .int ((zap X q (j + 1)).2)), (2, .int ((zap X q (j + 1)).1)), (5, .int 1), (4, .int (nI j)), (0, .ref mo), (1, .int (nI q))]) hx hb dX3_apartIn_128 rfl hl (by decide) rfl (fun ls hl => ?_)
                  refine lv_iinc (v := nI (j + 1)) (lv' := [(4, .int (nI (j + 1))), (3, .int ((zap X q (j + 1)).2)), (2, .int ((zap X q (j + 1)).1)), (5, .int 1), (0, .ref mo), (1, .int (nI q))]) hx hb dX3_apartIn_129 hl (k := 3) rfl (nI_1 j) (by decide) rfl (fun ls hl => ?_)
                  refine lv_goto (tgt := 9) hx hb dX3_apartIn_132 (by decide) ?_
                  exact ih_3 (j + 1) (by omega) (by omega) _ _ _ hX hS (lv_sub hl [0, 1, 2, 4, 5] rfl)
              · refine lv_aload_n hx hb dX3_apartIn_89 rfl (lv_at hl 4 rfl) ?_
                refine zx_get hx hb hown hts hK hX 13 (by decide) q1034 rfl rfl dX3_apartIn_90 ?_
                refine lv_iload hx hb dX3_apartIn_93 (lv_at hl 1 rfl) ?_
                refine zx_ld (i := j) hx hb hK hX 13 rfl rfl (n := 60) rfl (by omega) dX3_apartIn_95 ?_
                refine lv_goto (tgt := 100) hx hb dX3_apartIn_96 (by decide) ?_
                refine zm_topi (y := (zap X q (j + 1)).1) (by simp [zap, hai, c_4, c_5, c_8, c_11, c_13]) ?_
                refine lv_istore_n (lv' := [(2, .int ((zap X q (j + 1)).1)), (5, .int 1), (4, .int (nI j)), (3, .int ((zap X q j).2)), (0, .ref mo), (1, .int (nI q))]) hx hb dX3_apartIn_100 rfl hl (by decide) rfl (fun ls hl => ?_)
                refine lv_iload hx hb dX3_apartIn_101 (lv_at hl 1 rfl) ?_
                refine lv_if_eq (tgt := 127) hx hb dX3_apartIn_103 (by decide) (fun c_16 => absurd c_16 (by decide)) (fun _ => ?_)
                refine lv_aload_n hx hb dX3_apartIn_106 rfl (lv_at hl 4 rfl) ?_
                refine zx_get hx hb hown hts hK hX 13 (by decide) q1034 rfl rfl dX3_apartIn_107 ?_
                refine lv_iload hx hb dX3_apartIn_110 (lv_at hl 2 rfl) ?_
                refine zx_ld (i := j) hx hb hK hX 13 rfl rfl (n := 60) rfl (by omega) dX3_apartIn_112 ?_
                refine lv_iload_n hx hb dX3_apartIn_113 rfl (lv_at hl 3 rfl) ?_
                refine lv_icmp_le (tgt := 127) hx hb dX3_apartIn_114 (by decide) (fun c_17 => ?_) (fun c_17 => ?_)
                · refine lv_iload_n hx hb dX3_apartIn_127 rfl (lv_at hl 3 rfl) ?_
                  refine zm_topi (y := (zap X q (j + 1)).2) (by simp [zap, hai, c_4, c_5, c_8, c_11, c_13, c_17]) ?_
                  refine lv_istore_n (lv' := [(3, .int ((zap X q (j + 1)).2)), (2, .int ((zap X q (j + 1)).1)), (5, .int 1), (4, .int (nI j)), (0, .ref mo), (1, .int (nI q))]) hx hb dX3_apartIn_128 rfl hl (by decide) rfl (fun ls hl => ?_)
                  refine lv_iinc (v := nI (j + 1)) (lv' := [(4, .int (nI (j + 1))), (3, .int ((zap X q (j + 1)).2)), (2, .int ((zap X q (j + 1)).1)), (5, .int 1), (0, .ref mo), (1, .int (nI q))]) hx hb dX3_apartIn_129 hl (k := 3) rfl (nI_1 j) (by decide) rfl (fun ls hl => ?_)
                  refine lv_goto (tgt := 9) hx hb dX3_apartIn_132 (by decide) ?_
                  exact ih_3 (j + 1) (by omega) (by omega) _ _ _ hX hS (lv_sub hl [0, 1, 2, 4, 5] rfl)
                · refine lv_aload_n hx hb dX3_apartIn_117 rfl (lv_at hl 4 rfl) ?_
                  refine zx_get hx hb hown hts hK hX 13 (by decide) q1034 rfl rfl dX3_apartIn_118 ?_
                  refine lv_iload hx hb dX3_apartIn_121 (lv_at hl 2 rfl) ?_
                  refine zx_ld (i := j) hx hb hK hX 13 rfl rfl (n := 60) rfl (by omega) dX3_apartIn_123 ?_
                  refine lv_goto (tgt := 128) hx hb dX3_apartIn_124 (by decide) ?_
                  refine zm_topi (y := (zap X q (j + 1)).2) (by simp [zap, hai, c_4, c_5, c_8, c_11, c_13, c_17]) ?_
                  refine lv_istore_n (lv' := [(3, .int ((zap X q (j + 1)).2)), (2, .int ((zap X q (j + 1)).1)), (5, .int 1), (4, .int (nI j)), (0, .ref mo), (1, .int (nI q))]) hx hb dX3_apartIn_128 rfl hl (by decide) rfl (fun ls hl => ?_)
                  refine lv_iinc (v := nI (j + 1)) (lv' := [(4, .int (nI (j + 1))), (3, .int ((zap X q (j + 1)).2)), (2, .int ((zap X q (j + 1)).1)), (5, .int 1), (0, .ref mo), (1, .int (nI q))]) hx hb dX3_apartIn_129 hl (k := 3) rfl (nI_1 j) (by decide) rfl (fun ls hl => ?_)
                  refine lv_goto (tgt := 9) hx hb dX3_apartIn_132 (by decide) ?_
                  exact ih_3 (j + 1) (by omega) (by omega) _ _ _ hX hS (lv_sub hl [0, 1, 2, 4, 5] rfl)
            · refine lv_aload_n hx hb dX3_apartIn_50 rfl (lv_at hl 3 rfl) ?_
              refine zx_get hx hb hown hts hK hX 5 (by decide) q1026 rfl rfl dX3_apartIn_51 ?_
              have hho := hI.host (by assumption) c_8
              refine lv_aload_n hx hb dX3_apartIn_54 rfl (lv_at hl 3 rfl) ?_
              refine zx_get hx hb hown hts hK hX 5 (by decide) q1026 rfl rfl dX3_apartIn_55 ?_
              refine lv_iload hx hb dX3_apartIn_58 (lv_at hl 0 rfl) ?_
              refine zx_ld (i := j) hx hb hK hX 5 rfl rfl (n := 60) rfl (by omega) dX3_apartIn_60 ?_
              refine zm_topi hho.1 ?_
              have hhl := hho.2.1
              refine zx_ld (i := mH X j) hx hb hK hX 5 rfl rfl (n := 60) rfl (by omega) dX3_apartIn_61 ?_
              refine lv_iload_n hx hb dX3_apartIn_62 rfl (lv_at hl 4 rfl) ?_
              refine lv_icmp_ne (tgt := 70) hx hb dX3_apartIn_63 (by decide) (fun c_18 => ?_) (fun c_18 => ?_)
              · refine lv_iconst (v := 0) hx hb dX3_apartIn_70 (by decide) ?_
                have hai : mAi X q j = false := by simp [mAi, c_4, c_5, c_8, c_11, c_18]
                refine lv_istore (lv' := [(5, .int 0), (4, .int (nI j)), (3, .int ((zap X q j).2)), (2, .int ((zap X q j).1)), (0, .ref mo), (1, .int (nI q))]) hx hb dX3_apartIn_71 hl (by decide) rfl (fun ls hl => ?_)
                refine lv_iload hx hb dX3_apartIn_73 (lv_at hl 0 rfl) ?_
                refine lv_if_eq (tgt := 99) hx hb dX3_apartIn_75 (by decide) (fun _ => ?_) (fun c_19 => absurd (by decide) c_19)
                refine lv_iload_n hx hb dX3_apartIn_99 rfl (lv_at hl 3 rfl) ?_
                refine zm_topi (y := (zap X q (j + 1)).1) (by simp [zap, hai, c_4, c_5, c_8, c_11, c_18]) ?_
                refine lv_istore_n (lv' := [(2, .int ((zap X q (j + 1)).1)), (5, .int 0), (4, .int (nI j)), (3, .int ((zap X q j).2)), (0, .ref mo), (1, .int (nI q))]) hx hb dX3_apartIn_100 rfl hl (by decide) rfl (fun ls hl => ?_)
                refine lv_iload hx hb dX3_apartIn_101 (lv_at hl 1 rfl) ?_
                refine lv_if_eq (tgt := 127) hx hb dX3_apartIn_103 (by decide) (fun _ => ?_) (fun c_20 => absurd (by decide) c_20)
                refine lv_iload_n hx hb dX3_apartIn_127 rfl (lv_at hl 3 rfl) ?_
                refine zm_topi (y := (zap X q (j + 1)).2) (by simp [zap, hai, c_4, c_5, c_8, c_11, c_18]) ?_
                refine lv_istore_n (lv' := [(3, .int ((zap X q (j + 1)).2)), (2, .int ((zap X q (j + 1)).1)), (5, .int 0), (4, .int (nI j)), (0, .ref mo), (1, .int (nI q))]) hx hb dX3_apartIn_128 rfl hl (by decide) rfl (fun ls hl => ?_)
                refine lv_iinc (v := nI (j + 1)) (lv' := [(4, .int (nI (j + 1))), (3, .int ((zap X q (j + 1)).2)), (2, .int ((zap X q (j + 1)).1)), (5, .int 0), (0, .ref mo), (1, .int (nI q))]) hx hb dX3_apartIn_129 hl (k := 3) rfl (nI_1 j) (by decide) rfl (fun ls hl => ?_)
                refine lv_goto (tgt := 9) hx hb dX3_apartIn_132 (by decide) ?_
                exact ih_3 (j + 1) (by omega) (by omega) _ _ _ hX hS (lv_sub hl [0, 1, 2, 4, 5] rfl)
              · refine lv_iconst (v := 1) hx hb dX3_apartIn_66 (by decide) ?_
                refine lv_goto (tgt := 71) hx hb dX3_apartIn_67 (by decide) ?_
                have hai : mAi X q j = true := by simp [mAi, c_5, c_8]; first | exact Or.inl c_18 | exact Or.inr c_18
                refine lv_istore (lv' := [(5, .int 1), (4, .int (nI j)), (3, .int ((zap X q j).2)), (2, .int ((zap X q j).1)), (0, .ref mo), (1, .int (nI q))]) hx hb dX3_apartIn_71 hl (by decide) rfl (fun ls hl => ?_)
                refine lv_iload hx hb dX3_apartIn_73 (lv_at hl 0 rfl) ?_
                refine lv_if_eq (tgt := 99) hx hb dX3_apartIn_75 (by decide) (fun c_21 => absurd c_21 (by decide)) (fun _ => ?_)
                refine lv_aload_n hx hb dX3_apartIn_78 rfl (lv_at hl 4 rfl) ?_
                refine zx_get hx hb hown hts hK hX 13 (by decide) q1034 rfl rfl dX3_apartIn_79 ?_
                refine lv_iload hx hb dX3_apartIn_82 (lv_at hl 1 rfl) ?_
                refine zx_ld (i := j) hx hb hK hX 13 rfl rfl (n := 60) rfl (by omega) dX3_apartIn_84 ?_
                refine lv_iload_n hx hb dX3_apartIn_85 rfl (lv_at hl 3 rfl) ?_
                refine lv_icmp_ge (tgt := 99) hx hb dX3_apartIn_86 (by decide) (fun c_22 => ?_) (fun c_22 => ?_)
                · refine lv_iload_n hx hb dX3_apartIn_99 rfl (lv_at hl 3 rfl) ?_
                  refine zm_topi (y := (zap X q (j + 1)).1) (by simp [zap, hai, c_4, c_5, c_8, c_11, c_18, c_22]) ?_
                  refine lv_istore_n (lv' := [(2, .int ((zap X q (j + 1)).1)), (5, .int 1), (4, .int (nI j)), (3, .int ((zap X q j).2)), (0, .ref mo), (1, .int (nI q))]) hx hb dX3_apartIn_100 rfl hl (by decide) rfl (fun ls hl => ?_)
                  refine lv_iload hx hb dX3_apartIn_101 (lv_at hl 1 rfl) ?_
                  refine lv_if_eq (tgt := 127) hx hb dX3_apartIn_103 (by decide) (fun c_23 => absurd c_23 (by decide)) (fun _ => ?_)
                  refine lv_aload_n hx hb dX3_apartIn_106 rfl (lv_at hl 4 rfl) ?_
                  refine zx_get hx hb hown hts hK hX 13 (by decide) q1034 rfl rfl dX3_apartIn_107 ?_
                  refine lv_iload hx hb dX3_apartIn_110 (lv_at hl 2 rfl) ?_
                  refine zx_ld (i := j) hx hb hK hX 13 rfl rfl (n := 60) rfl (by omega) dX3_apartIn_112 ?_
                  refine lv_iload_n hx hb dX3_apartIn_113 rfl (lv_at hl 3 rfl) ?_
                  refine lv_icmp_le (tgt := 127) hx hb dX3_apartIn_114 (by decide) (fun c_24 => ?_) (fun c_24 => ?_)
                  · refine lv_iload_n hx hb dX3_apartIn_127 rfl (lv_at hl 3 rfl) ?_
                    refine zm_topi (y := (zap X q (j + 1)).2) (by simp [zap, hai, c_4, c_5, c_8, c_11, c_18, c_22, c_24]) ?_
                    refine lv_istore_n (lv' := [(3, .int ((zap X q (j + 1)).2)), (2, .int ((zap X q (j + 1)).1)), (5, .int 1), (4, .int (nI j)), (0, .ref mo), (1, .int (nI q))]) hx hb dX3_apartIn_128 rfl hl (by decide) rfl (fun ls hl => ?_)
                    refine lv_iinc (v := nI (j + 1)) (lv' := [(4, .int (nI (j + 1))), (3, .int ((zap X q (j + 1)).2)), (2, .int ((zap X q (j + 1)).1)), (5, .int 1), (0, .ref mo), (1, .int (nI q))]) hx hb dX3_apartIn_129 hl (k := 3) rfl (nI_1 j) (by decide) rfl (fun ls hl => ?_)
                    refine lv_goto (tgt := 9) hx hb dX3_apartIn_132 (by decide) ?_
                    exact ih_3 (j + 1) (by omega) (by omega) _ _ _ hX hS (lv_sub hl [0, 1, 2, 4, 5] rfl)
                  · refine lv_aload_n hx hb dX3_apartIn_117 rfl (lv_at hl 4 rfl) ?_
                    refine zx_get hx hb hown hts hK hX 13 (by decide) q1034 rfl rfl dX3_apartIn_118 ?_
                    refine lv_iload hx hb dX3_apartIn_121 (lv_at hl 2 rfl) ?_
                    refine zx_ld (i := j) hx hb hK hX 13 rfl rfl (n := 60) rfl (by omega) dX3_apartIn_123 ?_
                    refine lv_goto (tgt := 128) hx hb dX3_apartIn_124 (by decide) ?_
                    refine zm_topi (y := (zap X q (j + 1)).2) (by simp [zap, hai, c_4, c_5, c_8, c_11, c_18, c_22, c_24]) ?_
                    refine lv_istore_n (lv' := [(3, .int ((zap X q (j + 1)).2)), (2, .int ((zap X q (j + 1)).1)), (5, .int 1), (4, .int (nI j)), (0, .ref mo), (1, .int (nI q))]) hx hb dX3_apartIn_128 rfl hl (by decide) rfl (fun ls hl => ?_)
                    refine lv_iinc (v := nI (j + 1)) (lv' := [(4, .int (nI (j + 1))), (3, .int ((zap X q (j + 1)).2)), (2, .int ((zap X q (j + 1)).1)), (5, .int 1), (0, .ref mo), (1, .int (nI q))]) hx hb dX3_apartIn_129 hl (k := 3) rfl (nI_1 j) (by decide) rfl (fun ls hl => ?_)
                    refine lv_goto (tgt := 9) hx hb dX3_apartIn_132 (by decide) ?_
                    exact ih_3 (j + 1) (by omega) (by omega) _ _ _ hX hS (lv_sub hl [0, 1, 2, 4, 5] rfl)
                · refine lv_aload_n hx hb dX3_apartIn_89 rfl (lv_at hl 4 rfl) ?_
                  refine zx_get hx hb hown hts hK hX 13 (by decide) q1034 rfl rfl dX3_apartIn_90 ?_
                  refine lv_iload hx hb dX3_apartIn_93 (lv_at hl 1 rfl) ?_
                  refine zx_ld (i := j) hx hb hK hX 13 rfl rfl (n := 60) rfl (by omega) dX3_apartIn_95 ?_
                  refine lv_goto (tgt := 100) hx hb dX3_apartIn_96 (by decide) ?_
                  refine zm_topi (y := (zap X q (j + 1)).1) (by simp [zap, hai, c_4, c_5, c_8, c_11, c_18, c_22]) ?_
                  refine lv_istore_n (lv' := [(2, .int ((zap X q (j + 1)).1)), (5, .int 1), (4, .int (nI j)), (3, .int ((zap X q j).2)), (0, .ref mo), (1, .int (nI q))]) hx hb dX3_apartIn_100 rfl hl (by decide) rfl (fun ls hl => ?_)
                  refine lv_iload hx hb dX3_apartIn_101 (lv_at hl 1 rfl) ?_
                  refine lv_if_eq (tgt := 127) hx hb dX3_apartIn_103 (by decide) (fun c_25 => absurd c_25 (by decide)) (fun _ => ?_)
                  refine lv_aload_n hx hb dX3_apartIn_106 rfl (lv_at hl 4 rfl) ?_
                  refine zx_get hx hb hown hts hK hX 13 (by decide) q1034 rfl rfl dX3_apartIn_107 ?_
                  refine lv_iload hx hb dX3_apartIn_110 (lv_at hl 2 rfl) ?_
                  refine zx_ld (i := j) hx hb hK hX 13 rfl rfl (n := 60) rfl (by omega) dX3_apartIn_112 ?_
                  refine lv_iload_n hx hb dX3_apartIn_113 rfl (lv_at hl 3 rfl) ?_
                  refine lv_icmp_le (tgt := 127) hx hb dX3_apartIn_114 (by decide) (fun c_26 => ?_) (fun c_26 => ?_)
                  · refine lv_iload_n hx hb dX3_apartIn_127 rfl (lv_at hl 3 rfl) ?_
                    refine zm_topi (y := (zap X q (j + 1)).2) (by simp [zap, hai, c_4, c_5, c_8, c_11, c_18, c_22, c_26]) ?_
                    refine lv_istore_n (lv' := [(3, .int ((zap X q (j + 1)).2)), (2, .int ((zap X q (j + 1)).1)), (5, .int 1), (4, .int (nI j)), (0, .ref mo), (1, .int (nI q))]) hx hb dX3_apartIn_128 rfl hl (by decide) rfl (fun ls hl => ?_)
                    refine lv_iinc (v := nI (j + 1)) (lv' := [(4, .int (nI (j + 1))), (3, .int ((zap X q (j + 1)).2)), (2, .int ((zap X q (j + 1)).1)), (5, .int 1), (0, .ref mo), (1, .int (nI q))]) hx hb dX3_apartIn_129 hl (k := 3) rfl (nI_1 j) (by decide) rfl (fun ls hl => ?_)
                    refine lv_goto (tgt := 9) hx hb dX3_apartIn_132 (by decide) ?_
                    exact ih_3 (j + 1) (by omega) (by omega) _ _ _ hX hS (lv_sub hl [0, 1, 2, 4, 5] rfl)
                  · refine lv_aload_n hx hb dX3_apartIn_117 rfl (lv_at hl 4 rfl) ?_
                    refine zx_get hx hb hown hts hK hX 13 (by decide) q1034 rfl rfl dX3_apartIn_118 ?_
                    refine lv_iload hx hb dX3_apartIn_121 (lv_at hl 2 rfl) ?_
                    refine zx_ld (i := j) hx hb hK hX 13 rfl rfl (n := 60) rfl (by omega) dX3_apartIn_123 ?_
                    refine lv_goto (tgt := 128) hx hb dX3_apartIn_124 (by decide) ?_
                    refine zm_topi (y := (zap X q (j + 1)).2) (by simp [zap, hai, c_4, c_5, c_8, c_11, c_18, c_22, c_26]) ?_
                    refine lv_istore_n (lv' := [(3, .int ((zap X q (j + 1)).2)), (2, .int ((zap X q (j + 1)).1)), (5, .int 1), (4, .int (nI j)), (0, .ref mo), (1, .int (nI q))]) hx hb dX3_apartIn_128 rfl hl (by decide) rfl (fun ls hl => ?_)
                    refine lv_iinc (v := nI (j + 1)) (lv' := [(4, .int (nI (j + 1))), (3, .int ((zap X q (j + 1)).2)), (2, .int ((zap X q (j + 1)).1)), (5, .int 1), (0, .ref mo), (1, .int (nI q))]) hx hb dX3_apartIn_129 hl (k := 3) rfl (nI_1 j) (by decide) rfl (fun ls hl => ?_)
                    refine lv_goto (tgt := 9) hx hb dX3_apartIn_132 (by decide) ?_
                    exact ih_3 (j + 1) (by omega) (by omega) _ _ _ hX hS (lv_sub hl [0, 1, 2, 4, 5] rfl)
  exact L_2 ((mN X + 1 - 0) + 1) 0 (Nat.lt_succ_self _) (by omega) _ _ _ hX hS (lv_sub hl [0, 1, 2, 3, 4] rfl)
theorem zn_X3_barsBy : zN yX3_barsBy 2 := by decide +kernel
set_option maxHeartbeats 4000000 in
theorem ct_X3_barsBy (l : Launch) (g : zG) (A : Nat → Prop) (mo : Nat) (ma : Nat → Nat) (X : zX) (q : Nat) (rs : Nat) (hI : MH X) (hq : q < mN X) (hrs : 1 ≤ rs ∧ rs ≤ 7) (hz9 : ∀ p, X 9 p = 0 ∨ X 9 p = 1) (hz10 : ∀ p, X 10 p = 0 ∨ X 10 p = 1) : Met l yX3_barsBy (ws_ yX3_barsBy cX3_barsBy 3 (some .boolean)) (zR 3 0 0) (zP [.ref mo, .int (nI q), .int (nI rs)] g A (zMX g A mo ma X)) (va_Qi (fun rz_ (_ : Unit) => rz_ = zb (mBb X q rs)) (fun (_ : Unit) t => zMX g A mo ma X t.heap) A) 0 0 A := by
  refine zb_met (by decide) (Nat.le_of_ble_eq_true rfl) ?_
  intro p e s m args below meth c ls hx hb hr hml hown hts hlocks hnm hK hX ha hl
  have hown : s.vm.findClass RX3 = some m.cls := hown
  have hS : va_S A s.heap s.heap [] := va_S.rf
  have hl : lv_has ls 3 [(0, .ref mo), (1, .int (nI q)), (2, .int (nI rs))] := hl
  have hn60 := hI.1.2
  rcases (show rs = 1 ∨ rs = 2 ∨ rs = 3 ∨ rs = 4 ∨ rs = 5 ∨ rs = 6 ∨ rs = 7 by omega) with rfl | rfl | rfl | rfl | rfl | rfl | rfl
  · refine lv_iload_n hx hb dX3_barsBy_0 rfl (lv_at hl 2 rfl) ?_
    refine lv_tableIn (x := nI 1) (off := 39) (tgt := 40) hx hb dX3_barsBy_1 (by decide) (by decide) rfl (by decide) ?_
    refine lv_aload_n hx hb dX3_barsBy_40 rfl (lv_at hl 0 rfl) ?_
    refine lv_iload_n hx hb dX3_barsBy_41 rfl (lv_at hl 1 rfl) ?_
    refine zc_i (zr_V (As := [.int (nI q)]) (rest := []) ⟨hx, hb, hml, hown, hts⟩ (ct_X3_hasEmpty l g A mo ma X q hI (by assumption)) zn_X3_hasEmpty (lw_V q1256 q1258 qs31 q48 q1259) rfl (by decide) (by decide) hK (fun _ h => h) hS hX (zx_recv hK hX) rfl hl.1 (Nat.le_of_ble_eq_true rfl) dX3_barsBy_42 ⟨Nat.le_refl _, Nat.le_refl _⟩) hS (fun _ h => h) (fun r _ H locs r_1 hX _ _ hS => ?_)
    subst r_1
    have e1 : (zb (mHe X q) : Int32) = zb (mBb X q 1) := by simp [mBb]
    exact ze_z hx hb hr hlocks hS dX3_barsBy_45 (Nat.le_refl _) (Nat.le_refl _) (zb_or _) () e1 hX
  · refine lv_iload_n hx hb dX3_barsBy_0 rfl (lv_at hl 2 rfl) ?_
    refine lv_tableIn (x := nI 2) (off := 45) (tgt := 46) hx hb dX3_barsBy_1 (by decide) (by decide) rfl (by decide) ?_
    refine lv_aload_n hx hb dX3_barsBy_46 rfl (lv_at hl 0 rfl) ?_
    refine zx_get hx hb hown hts hK hX 9 (by decide) q1030 rfl rfl dX3_barsBy_47 ?_
    refine lv_iload_n hx hb dX3_barsBy_50 rfl (lv_at hl 1 rfl) ?_
    refine zx_ldz (i := q) hx hb hK hX 9 rfl rfl (n := 60) rfl (by omega) dX3_barsBy_51 ?_
    have e1 : (X 9 q : Int32) = zb (mBb X q 2) := by rcases hz9 q with e | e <;> (rw [e]; simp [mBb, zb, e])
    exact ze_z hx hb hr hlocks hS dX3_barsBy_52 (Nat.le_refl _) (Nat.le_refl _) (hz9 _) () e1 hX
  · refine lv_iload_n hx hb dX3_barsBy_0 rfl (lv_at hl 2 rfl) ?_
    refine lv_tableIn (x := nI 3) (off := 52) (tgt := 53) hx hb dX3_barsBy_1 (by decide) (by decide) rfl (by decide) ?_
    refine lv_aload_n hx hb dX3_barsBy_53 rfl (lv_at hl 0 rfl) ?_
    refine zx_get hx hb hown hts hK hX 10 (by decide) q1031 rfl rfl dX3_barsBy_54 ?_
    refine lv_iload_n hx hb dX3_barsBy_57 rfl (lv_at hl 1 rfl) ?_
    refine zx_ldz (i := q) hx hb hK hX 10 rfl rfl (n := 60) rfl (by omega) dX3_barsBy_58 ?_
    have e1 : (X 10 q : Int32) = zb (mBb X q 3) := by rcases hz10 q with e | e <;> (rw [e]; simp [mBb, zb, e])
    exact ze_z hx hb hr hlocks hS dX3_barsBy_59 (Nat.le_refl _) (Nat.le_refl _) (hz10 _) () e1 hX
  · refine lv_iload_n hx hb dX3_barsBy_0 rfl (lv_at hl 2 rfl) ?_
    refine lv_tableIn (x := nI 4) (off := 59) (tgt := 60) hx hb dX3_barsBy_1 (by decide) (by decide) rfl (by decide) ?_
    have hk4 := (hI.2.1 _ hq).2
    refine lv_aload_n hx hb dX3_barsBy_60 rfl (lv_at hl 0 rfl) ?_
    refine zx_get hx hb hown hts hK hX 20 (by decide) q1041 rfl rfl dX3_barsBy_61 ?_
    refine lv_aload_n hx hb dX3_barsBy_64 rfl (lv_at hl 0 rfl) ?_
    refine zx_get hx hb hown hts hK hX 2 (by decide) q1023 rfl rfl dX3_barsBy_65 ?_
    refine lv_iload_n hx hb dX3_barsBy_68 rfl (lv_at hl 1 rfl) ?_
    refine zx_ld (i := q) hx hb hK hX 2 rfl rfl (n := 60) rfl (by omega) dX3_barsBy_69 ?_
    refine zm_topi (y := nI (mK X q)) ((hI.2.1 _ (by assumption)).1) ?_
    refine zx_ld (i := mK X q) hx hb hK hX 20 rfl rfl (n := 5) rfl (by omega) dX3_barsBy_70 ?_
    refine lv_if_le (tgt := 98) hx hb dX3_barsBy_71 (by decide) (fun c_2 => ?_) (fun c_2 => ?_)
    · refine lv_iconst (v := 0) hx hb dX3_barsBy_98 (by decide) ?_
      have e1 : (0 : Int32) = zb (mBb X q 4) := by simp [mBb, zb, c_2]
      exact ze_z hx hb hr hlocks hS dX3_barsBy_99 (Nat.le_refl _) (Nat.le_refl _) (Or.inl rfl) () e1 hX
    · refine lv_aload_n hx hb dX3_barsBy_74 rfl (lv_at hl 0 rfl) ?_
      refine zx_get hx hb hown hts hK hX 6 (by decide) q1027 rfl rfl dX3_barsBy_75 ?_
      refine lv_iload_n hx hb dX3_barsBy_78 rfl (lv_at hl 1 rfl) ?_
      refine zx_ld (i := q) hx hb hK hX 6 rfl rfl (n := 60) rfl (by omega) dX3_barsBy_79 ?_
      refine lv_aload_n hx hb dX3_barsBy_80 rfl (lv_at hl 0 rfl) ?_
      refine zx_get hx hb hown hts hK hX 20 (by decide) q1041 rfl rfl dX3_barsBy_81 ?_
      refine lv_aload_n hx hb dX3_barsBy_84 rfl (lv_at hl 0 rfl) ?_
      refine zx_get hx hb hown hts hK hX 2 (by decide) q1023 rfl rfl dX3_barsBy_85 ?_
      refine lv_iload_n hx hb dX3_barsBy_88 rfl (lv_at hl 1 rfl) ?_
      refine zx_ld (i := q) hx hb hK hX 2 rfl rfl (n := 60) rfl (by omega) dX3_barsBy_89 ?_
      refine zm_topi (y := nI (mK X q)) ((hI.2.1 _ (by assumption)).1) ?_
      refine zx_ld (i := mK X q) hx hb hK hX 20 rfl rfl (n := 5) rfl (by omega) dX3_barsBy_90 ?_
      refine lv_icmp_le (tgt := 98) hx hb dX3_barsBy_91 (by decide) (fun c_3 => ?_) (fun c_3 => ?_)
      · refine lv_iconst (v := 0) hx hb dX3_barsBy_98 (by decide) ?_
        have e1 : (0 : Int32) = zb (mBb X q 4) := by simp [mBb, zb, c_2, c_3]
        exact ze_z hx hb hr hlocks hS dX3_barsBy_99 (Nat.le_refl _) (Nat.le_refl _) (Or.inl rfl) () e1 hX
      · refine lv_iconst (v := 1) hx hb dX3_barsBy_94 (by decide) ?_
        refine lv_goto (tgt := 99) hx hb dX3_barsBy_95 (by decide) ?_
        have e1 : (1 : Int32) = zb (mBb X q 4) := by simp [mBb, zb, c_2, c_3]
        exact ze_z hx hb hr hlocks hS dX3_barsBy_99 (Nat.le_refl _) (Nat.le_refl _) (Or.inr rfl) () e1 hX
  · refine lv_iload_n hx hb dX3_barsBy_0 rfl (lv_at hl 2 rfl) ?_
    refine lv_tableIn (x := nI 5) (off := 99) (tgt := 100) hx hb dX3_barsBy_1 (by decide) (by decide) rfl (by decide) ?_
    refine lv_aload_n hx hb dX3_barsBy_100 rfl (lv_at hl 0 rfl) ?_
    refine lv_iload_n hx hb dX3_barsBy_101 rfl (lv_at hl 1 rfl) ?_
    refine zc_i (zr_V (As := [.int (nI q)]) (rest := []) ⟨hx, hb, hml, hown, hts⟩ (ct_X3_isWorn l g A mo ma X q hI (by assumption)) zn_X3_isWorn (lw_V q1260 q1262 qs32 q48 q1263) rfl (by decide) (by decide) hK (fun _ h => h) hS hX (zx_recv hK hX) rfl hl.1 (Nat.le_of_ble_eq_true rfl) dX3_barsBy_102 ⟨Nat.le_refl _, Nat.le_refl _⟩) hS (fun _ h => h) (fun r _ H locs r_4 hX _ _ hS => ?_)
    subst r_4
    have e1 : (zb (mWn X q) : Int32) = zb (mBb X q 5) := by simp [mBb]
    exact ze_z hx hb hr hlocks hS dX3_barsBy_105 (Nat.le_refl _) (Nat.le_refl _) (zb_or _) () e1 hX
  · refine lv_iload_n hx hb dX3_barsBy_0 rfl (lv_at hl 2 rfl) ?_
    refine lv_tableIn (x := nI 6) (off := 105) (tgt := 106) hx hb dX3_barsBy_1 (by decide) (by decide) rfl (by decide) ?_
    refine lv_aload_n hx hb dX3_barsBy_106 rfl (lv_at hl 0 rfl) ?_
    refine zx_get hx hb hown hts hK hX 2 (by decide) q1023 rfl rfl dX3_barsBy_107 ?_
    refine lv_iload_n hx hb dX3_barsBy_110 rfl (lv_at hl 1 rfl) ?_
    refine zx_ld (i := q) hx hb hK hX 2 rfl rfl (n := 60) rfl (by omega) dX3_barsBy_111 ?_
    refine lv_iconst (v := 2) hx hb dX3_barsBy_112 (by decide) ?_
    refine lv_icmp_ne (tgt := 126) hx hb dX3_barsBy_113 (by decide) (fun c_5 => ?_) (fun c_5 => ?_)
    · refine lv_aload_n hx hb dX3_barsBy_126 rfl (lv_at hl 0 rfl) ?_
      refine zx_get hx hb hown hts hK hX 2 (by decide) q1023 rfl rfl dX3_barsBy_127 ?_
      refine lv_iload_n hx hb dX3_barsBy_130 rfl (lv_at hl 1 rfl) ?_
      refine zx_ld (i := q) hx hb hK hX 2 rfl rfl (n := 60) rfl (by omega) dX3_barsBy_131 ?_
      refine lv_iconst (v := 1) hx hb dX3_barsBy_132 (by decide) ?_
      refine lv_icmp_ne (tgt := 150) hx hb dX3_barsBy_133 (by decide) (fun c_6 => ?_) (fun c_6 => ?_)
      · refine lv_iconst (v := 0) hx hb dX3_barsBy_150 (by decide) ?_
        have e1 : (0 : Int32) = zb (mBb X q 6) := by simp [mBb, zb, c_5, c_6]
        exact ze_z hx hb hr hlocks hS dX3_barsBy_151 (Nat.le_refl _) (Nat.le_refl _) (Or.inl rfl) () e1 hX
      · refine lv_aload_n hx hb dX3_barsBy_136 rfl (lv_at hl 0 rfl) ?_
        refine lv_iload_n hx hb dX3_barsBy_137 rfl (lv_at hl 1 rfl) ?_
        refine zc_i (zr_V (As := [.int (nI q)]) (rest := []) ⟨hx, hb, hml, hown, hts⟩ (ct_X3_apartIn l g A mo ma X q hI (by omega)) zn_X3_apartIn (lw_V q1264 q1266 qs33 q48 q1267) rfl (by decide) (by decide) hK (fun _ h => h) hS hX (zx_recv hK hX) rfl hl.1 (Nat.le_of_ble_eq_true rfl) dX3_barsBy_138 ⟨Nat.le_refl _, Nat.le_refl _⟩) hS (fun _ h => h) (fun r _ H locs r_7 hX _ _ hS => ?_)
        subst r_7
        refine lv_bipush (v := 60) hx hb dX3_barsBy_141 (by decide) ?_
        refine lv_icmp_le (tgt := 150) hx hb dX3_barsBy_143 (by decide) (fun c_8 => ?_) (fun c_8 => ?_)
        · refine lv_iconst (v := 0) hx hb dX3_barsBy_150 (by decide) ?_
          have e1 : (0 : Int32) = zb (mBb X q 6) := by first | (simp [mBb, zb, c_5, c_6, c_8]; done) | exact absurd (c_5.symm.trans c_8) (by decide)
          exact ze_z hx hb hr hlocks hS dX3_barsBy_151 (Nat.le_refl _) (Nat.le_refl _) (Or.inl rfl) () e1 hX
        · refine lv_iconst (v := 1) hx hb dX3_barsBy_146 (by decide) ?_
          refine lv_goto (tgt := 151) hx hb dX3_barsBy_147 (by decide) ?_
          have e1 : (1 : Int32) = zb (mBb X q 6) := by first | (simp [mBb, zb, c_5, c_6, c_8]; done) | exact absurd (c_5.symm.trans c_8) (by decide)
          exact ze_z hx hb hr hlocks hS dX3_barsBy_151 (Nat.le_refl _) (Nat.le_refl _) (Or.inr rfl) () e1 hX
    · refine lv_aload_n hx hb dX3_barsBy_116 rfl (lv_at hl 0 rfl) ?_
      refine lv_iload_n hx hb dX3_barsBy_117 rfl (lv_at hl 1 rfl) ?_
      refine zc_i (zr_V (As := [.int (nI q)]) (rest := []) ⟨hx, hb, hml, hown, hts⟩ (ct_X3_apartIn l g A mo ma X q hI (by omega)) zn_X3_apartIn (lw_V q1264 q1266 qs33 q48 q1267) rfl (by decide) (by decide) hK (fun _ h => h) hS hX (zx_recv hK hX) rfl hl.1 (Nat.le_of_ble_eq_true rfl) dX3_barsBy_118 ⟨Nat.le_refl _, Nat.le_refl _⟩) hS (fun _ h => h) (fun r _ H locs r_9 hX _ _ hS => ?_)
      subst r_9
      refine lv_bipush (v := 20) hx hb dX3_barsBy_121 (by decide) ?_
      refine lv_icmp_gt (tgt := 146) hx hb dX3_barsBy_123 (by decide) (fun c_10 => ?_) (fun c_10 => ?_)
      · refine lv_iconst (v := 1) hx hb dX3_barsBy_146 (by decide) ?_
        refine lv_goto (tgt := 151) hx hb dX3_barsBy_147 (by decide) ?_
        have e1 : (1 : Int32) = zb (mBb X q 6) := by simp [mBb, zb, c_5, c_10]
        exact ze_z hx hb hr hlocks hS dX3_barsBy_151 (Nat.le_refl _) (Nat.le_refl _) (Or.inr rfl) () e1 hX
      · refine lv_aload_n hx hb dX3_barsBy_126 rfl (lv_at hl 0 rfl) ?_
        refine zx_get hx hb hown hts hK hX 2 (by decide) q1023 rfl rfl dX3_barsBy_127 ?_
        refine lv_iload_n hx hb dX3_barsBy_130 rfl (lv_at hl 1 rfl) ?_
        refine zx_ld (i := q) hx hb hK hX 2 rfl rfl (n := 60) rfl (by omega) dX3_barsBy_131 ?_
        refine lv_iconst (v := 1) hx hb dX3_barsBy_132 (by decide) ?_
        refine lv_icmp_ne (tgt := 150) hx hb dX3_barsBy_133 (by decide) (fun c_11 => ?_) (fun c_11 => ?_)
        · refine lv_iconst (v := 0) hx hb dX3_barsBy_150 (by decide) ?_
          have e1 : (0 : Int32) = zb (mBb X q 6) := by first | (simp [mBb, zb, c_5, c_10, c_11]; done) | exact absurd (c_5.symm.trans c_11) (by decide)
          exact ze_z hx hb hr hlocks hS dX3_barsBy_151 (Nat.le_refl _) (Nat.le_refl _) (Or.inl rfl) () e1 hX
        · refine lv_aload_n hx hb dX3_barsBy_136 rfl (lv_at hl 0 rfl) ?_
          refine lv_iload_n hx hb dX3_barsBy_137 rfl (lv_at hl 1 rfl) ?_
          refine zc_i (zr_V (As := [.int (nI q)]) (rest := []) ⟨hx, hb, hml, hown, hts⟩ (ct_X3_apartIn l g A mo ma X q hI (by omega)) zn_X3_apartIn (lw_V q1264 q1266 qs33 q48 q1267) rfl (by decide) (by decide) hK (fun _ h => h) hS hX (zx_recv hK hX) rfl hl.1 (Nat.le_of_ble_eq_true rfl) dX3_barsBy_138 ⟨Nat.le_refl _, Nat.le_refl _⟩) hS (fun _ h => h) (fun r _ H locs r_12 hX _ _ hS => ?_)
          subst r_12
          refine lv_bipush (v := 60) hx hb dX3_barsBy_141 (by decide) ?_
          refine lv_icmp_le (tgt := 150) hx hb dX3_barsBy_143 (by decide) (fun c_13 => ?_) (fun c_13 => ?_)
          · refine lv_iconst (v := 0) hx hb dX3_barsBy_150 (by decide) ?_
            have e1 : (0 : Int32) = zb (mBb X q 6) := by first | (simp [mBb, zb, c_5, c_10, c_11, c_13]; done) | exact absurd (c_5.symm.trans c_11) (by decide)
            exact ze_z hx hb hr hlocks hS dX3_barsBy_151 (Nat.le_refl _) (Nat.le_refl _) (Or.inl rfl) () e1 hX
          · refine lv_iconst (v := 1) hx hb dX3_barsBy_146 (by decide) ?_
            refine lv_goto (tgt := 151) hx hb dX3_barsBy_147 (by decide) ?_
            have e1 : (1 : Int32) = zb (mBb X q 6) := by first | (simp [mBb, zb, c_5, c_10, c_11, c_13]; done) | exact absurd (c_5.symm.trans c_11) (by decide)
            exact ze_z hx hb hr hlocks hS dX3_barsBy_151 (Nat.le_refl _) (Nat.le_refl _) (Or.inr rfl) () e1 hX
  · refine lv_iload_n hx hb dX3_barsBy_0 rfl (lv_at hl 2 rfl) ?_
    refine lv_tableOut (x := nI 7) (tgt := 152) hx hb dX3_barsBy_1 (by decide) (by decide) ?_
    refine lv_aload_n hx hb dX3_barsBy_152 rfl (lv_at hl 0 rfl) ?_
    refine lv_iload_n hx hb dX3_barsBy_153 rfl (lv_at hl 1 rfl) ?_
    refine zc_i (zr_V (As := [.int (nI q)]) (rest := []) ⟨hx, hb, hml, hown, hts⟩ (ct_X3_isDue l g A mo ma X q hI (by assumption)) zn_X3_isDue (lw_V q1270 q1272 qs34 q48 q1273) rfl (by decide) (by decide) hK (fun _ h => h) hS hX (zx_recv hK hX) rfl hl.1 (Nat.le_of_ble_eq_true rfl) dX3_barsBy_154 ⟨Nat.le_refl _, Nat.le_refl _⟩) hS (fun _ h => h) (fun r _ H locs r_14 hX _ _ hS => ?_)
    subst r_14
    have e1 : (zb (mDu X q) : Int32) = zb (mBb X q 7) := by simp [mBb]
    exact ze_z hx hb hr hlocks hS dX3_barsBy_157 (Nat.le_refl _) (Nat.le_refl _) (zb_or _) () e1 hX
theorem zn_X3_barOf : zN yX3_barOf 1 := by decide +kernel
set_option maxHeartbeats 4000000 in
theorem ct_X3_barOf (l : Launch) (g : zG) (A : Nat → Prop) (mo : Nat) (ma : Nat → Nat) (X : zX) (t : Nat) (hI : MH X) (ht : t < 60) (hz9 : ∀ p, X 9 p = 0 ∨ X 9 p = 1) (hz10 : ∀ p, X 10 p = 0 ∨ X 10 p = 1) : Met l yX3_barOf (ws_ yX3_barOf cX3_barOf 4 (some .int)) (zR 4 0 0) (zP [.ref mo, .int (nI t)] g A (zMX g A mo ma X)) (va_Qi (fun rz_ (_ : Unit) => rz_ = mBo X t) (fun (_ : Unit) t => zMX g A mo ma X t.heap) A) 0 0 A := by
  refine zb_met (by decide) (Nat.le_of_ble_eq_true rfl) ?_
  intro p e s m args below meth c ls hx hb hr hml hown hts hlocks hnm hK hX ha hl
  have hown : s.vm.findClass RX3 = some m.cls := hown
  have hS : va_S A s.heap s.heap [] := va_S.rf
  have hl : lv_has ls 4 [(0, .ref mo), (1, .int (nI t))] := hl
  have hn60 := hI.1.2
  refine lv_iconst (v := 1) hx hb dX3_barOf_0 (by decide) ?_
  refine lv_istore_n (lv' := [(2, .int 1), (0, .ref mo), (1, .int (nI t))]) hx hb dX3_barOf_1 rfl hl (by decide) rfl (fun ls hl => ?_)
  have L_2 : ∀ (n_1 : Nat) (r : Nat), 9 - r < n_1 → (1 ≤ r ∧ r ≤ 8) → (zbo X t (8 - r) r = mBo X t) → ∀ (H : Heap) (locs : List Loc) (ls : Array Slot), zMX g A mo ma X H → va_S A s.heap H locs → lv_has ls 4 [(2, .int (nI r)), (0, .ref mo), (1, .int (nI t))] → W p l e (zR 4 0 0) s m args below meth c H locs 0 0 (MQ below (va_Qi (fun rz_ (_ : Unit) => rz_ = mBo X t) (fun (_ : Unit) t => zMX g A mo ma X t.heap) A) args s 0 0 A) (F0 m 2 ls []) := by
    intro n_1
    induction n_1 with
    | zero => intro r hm; exact absurd hm (Nat.not_lt_zero _)
    | succ n_1 ih =>
      intro r hm hrr ho H locs ls hX hS hl
      have ih_3 := ih
      refine lv_iload_n hx hb dX3_barOf_2 rfl (lv_at hl 0 rfl) ?_
      refine lv_bipush (v := 8) hx hb dX3_barOf_3 (by decide) ?_
      refine zl_ge (tgt := 55) (a := r) (b := 8) hx hb (by first | decide | omega) (by first | decide | omega) dX3_barOf_5 (by decide) (fun c_4 => ?_) (fun c_4 => ?_)
      · refine lv_iconst (v := 0) hx hb dX3_barOf_55 (by decide) ?_
        have e1 : (0 : Int32) = mBo X t := by rw [← ho, show r = 8 by omega]; rfl
        exact ze_i hx hb hr hlocks hS dX3_barOf_56 (Nat.le_refl _) (Nat.le_refl _) () e1 hX
      · refine lv_iconst (v := 0) hx hb dX3_barOf_8 (by decide) ?_
        refine lv_istore_n (lv' := [(3, .int 0), (2, .int (nI r)), (0, .ref mo), (1, .int (nI t))]) hx hb dX3_barOf_9 rfl hl (by decide) rfl (fun ls hl => ?_)
        have L_6 : ∀ (n_5 : Nat) (j : Nat), mN X + 1 - j < n_5 → (j ≤ mN X) → (zfi (fun p => mIi X p t && mBb X p r) (mN X - j) j = zfi (fun p => mIi X p t && mBb X p r) (mN X) 0) → ∀ (H : Heap) (locs : List Loc) (ls : Array Slot), zMX g A mo ma X H → va_S A s.heap H locs → lv_has ls 4 [(3, .int (nI j)), (2, .int (nI r)), (0, .ref mo), (1, .int (nI t))] → W p l e (zR 4 0 0) s m args below meth c H locs 0 0 (MQ below (va_Qi (fun rz_ (_ : Unit) => rz_ = mBo X t) (fun (_ : Unit) t => zMX g A mo ma X t.heap) A) args s 0 0 A) (F0 m 10 ls []) := by
          intro n_5
          induction n_5 with
          | zero => intro j hm; exact absurd hm (Nat.not_lt_zero _)
          | succ n_5 ih =>
            intro j hm hj hf H locs ls hX hS hl
            have ih_7 := ih
            refine lv_iload_n hx hb dX3_barOf_10 rfl (lv_at hl 0 rfl) ?_
            refine lv_aload_n hx hb dX3_barOf_11 rfl (lv_at hl 2 rfl) ?_
            refine zx_get hx hb hown hts hK hX 1 (by decide) q1022 rfl rfl dX3_barOf_12 ?_
            refine zm_topi (y := nI (mN X)) (hI.1.1) ?_
            refine zl_ge (tgt := 49) (a := j) (b := mN X) hx hb (by first | decide | omega) (by first | decide | omega) dX3_barOf_15 (by decide) (fun c_8 => ?_) (fun c_8 => ?_)
            · have ho2 : zbo X t (8 - (r + 1)) (r + 1) = mBo X t := by
                rw [show mN X - j = 0 by omega] at hf
                rw [← ho, show 8 - r = (8 - (r + 1)) + 1 by omega]
                conv => rhs; unfold zbo
                rw [← hf]
                rfl
              refine lv_iinc (v := nI (r + 1)) (lv' := [(2, .int (nI (r + 1))), (3, .int (nI j)), (0, .ref mo), (1, .int (nI t))]) hx hb dX3_barOf_49 hl (k := 1) rfl (nI_1 r) (by decide) rfl (fun ls hl => ?_)
              refine lv_goto (tgt := 2) hx hb dX3_barOf_52 (by decide) ?_
              exact ih_3 (r + 1) (by omega) (by omega) ho2 _ _ _ hX hS (lv_sub hl [0, 2, 3] rfl)
            · refine lv_aload_n hx hb dX3_barOf_18 rfl (lv_at hl 2 rfl) ?_
              refine lv_iload_n hx hb dX3_barOf_19 rfl (lv_at hl 0 rfl) ?_
              refine lv_iload_n hx hb dX3_barOf_20 rfl (lv_at hl 3 rfl) ?_
              refine zc_i (zr_V (As := [.int (nI j), .int (nI t)]) (rest := []) ⟨hx, hb, hml, hown, hts⟩ (ct_X3_isIn l g A mo ma X j t hI (by assumption) (by omega)) zn_X3_isIn (lw_V q1189 q1191 qs24 q48 q1192) rfl (by decide) (by decide) hK (fun _ h => h) hS hX (zx_recv hK hX) rfl hl.1 (Nat.le_of_ble_eq_true rfl) dX3_barOf_21 ⟨Nat.le_refl _, Nat.le_refl _⟩) hS (fun _ h => h) (fun r _ H locs r_9 hX _ _ hS => ?_)
              subst r_9
              refine zl_ifeq (tgt := 43) hx hb dX3_barOf_24 (by decide) (fun c_10 => ?_) (fun c_10 => ?_)
              · refine lv_iinc (v := nI (j + 1)) (lv' := [(3, .int (nI (j + 1))), (2, .int (nI r)), (0, .ref mo), (1, .int (nI t))]) hx hb dX3_barOf_43 hl (k := 0) rfl (nI_1 j) (by decide) rfl (fun ls hl => ?_)
                refine lv_goto (tgt := 10) hx hb dX3_barOf_46 (by decide) ?_
                exact ih_7 (j + 1) (by omega) (by omega) (by rw [show mN X - j = (mN X - (j + 1)) + 1 by omega] at hf; rw [zfi_n (by simp [c_10])] at hf; exact hf) _ _ _ hX hS (lv_sub hl [0, 1, 2, 3] rfl)
              · refine lv_aload_n hx hb dX3_barOf_27 rfl (lv_at hl 2 rfl) ?_
                refine lv_iload_n hx hb dX3_barOf_28 rfl (lv_at hl 0 rfl) ?_
                refine lv_iload_n hx hb dX3_barOf_29 rfl (lv_at hl 1 rfl) ?_
                refine zc_i (zr_V (As := [.int (nI j), .int (nI r)]) (rest := []) ⟨hx, hb, hml, hown, hts⟩ (ct_X3_barsBy l g A mo ma X j r hI (by assumption) (by omega) hz9 hz10) zn_X3_barsBy (lw_V q1252 q1254 qs30 q48 q1255) rfl (by decide) (by decide) hK (fun _ h => h) hS hX (zx_recv hK hX) rfl hl.1 (Nat.le_of_ble_eq_true rfl) dX3_barOf_30 ⟨Nat.le_refl _, Nat.le_refl _⟩) hS (fun _ h => h) (fun r _ H locs r_11 hX _ _ hS => ?_)
                subst r_11
                refine zl_ifeq (tgt := 43) hx hb dX3_barOf_33 (by decide) (fun c_12 => ?_) (fun c_12 => ?_)
                · refine lv_iinc (v := nI (j + 1)) (lv' := [(3, .int (nI (j + 1))), (2, .int (nI r)), (0, .ref mo), (1, .int (nI t))]) hx hb dX3_barOf_43 hl (k := 0) rfl (nI_1 j) (by decide) rfl (fun ls hl => ?_)
                  refine lv_goto (tgt := 10) hx hb dX3_barOf_46 (by decide) ?_
                  exact ih_7 (j + 1) (by omega) (by omega) (by rw [show mN X - j = (mN X - (j + 1)) + 1 by omega] at hf; rw [zfi_n (by simp [c_12])] at hf; exact hf) _ _ _ hX hS (lv_sub hl [0, 1, 2, 3] rfl)
                · refine lv_bipush (v := 100) hx hb dX3_barOf_36 (by decide) ?_
                  refine lv_iload_n hx hb dX3_barOf_38 rfl (lv_at hl 1 rfl) ?_
                  refine lv_imul hx hb dX3_barOf_39 ?_
                  refine zm_topi (y := nI (100 * r)) (pk_mul 100 r) ?_
                  refine lv_iload_n hx hb dX3_barOf_40 rfl (lv_at hl 0 rfl) ?_
                  refine lv_iadd hx hb dX3_barOf_41 ?_
                  refine zm_topi (y := nI (100 * r + j)) (nI_add (100 * r) j) ?_
                  have e1 : (nI (100 * r + j) : Int32) = mBo X t := by rw [← ho, show 8 - r = (8 - (r + 1)) + 1 by omega]; unfold zbo; rw [← hf, show mN X - j = (mN X - (j + 1)) + 1 by omega]; unfold zfi; rw [if_pos (by simp [c_10, c_12])]
                  exact ze_i hx hb hr hlocks hS dX3_barOf_42 (Nat.le_refl _) (Nat.le_refl _) () e1 hX
        exact L_6 ((mN X + 1 - 0) + 1) 0 (Nat.lt_succ_self _) (Nat.zero_le _) rfl _ _ _ hX hS (lv_sub hl [0, 1, 2, 3] rfl)
  exact L_2 ((9 - 1) + 1) 1 (Nat.lt_succ_self _) (by omega) rfl _ _ _ hX hS (lv_sub hl [0, 1, 2] rfl)
theorem zn_X3_release : zN yX3_release 1 := by decide +kernel
set_option maxHeartbeats 4000000 in
theorem ct_X3_release (l : Launch) (g : zG) (A : Nat → Prop) (mo : Nat) (ma : Nat → Nat) (X : zX) (x : Int32) (hI : MH X) (hz9 : ∀ p, X 9 p = 0 ∨ X 9 p = 1) (hz10 : ∀ p, X 10 p = 0 ∨ X 10 p = 1) : Met l yX3_release (ws_ yX3_release cX3_release 3 (some .int)) (zR 5 0 0) (zP [.ref mo, .int x] g A (zMX g A mo ma X)) (va_Qi (fun rz_ (_ : Unit) => rz_ = (m_release X x).1) (fun (_ : Unit) t => zMX g A mo ma ((m_release X x).2) t.heap) A) 0 0 A := by
  refine zb_met (by decide) (Nat.le_of_ble_eq_true rfl) ?_
  intro p e s m args below meth c ls hx hb hr hml hown hts hlocks hnm hK hX ha hl
  have hown : s.vm.findClass RX3 = some m.cls := hown
  have hS : va_S A s.heap s.heap [] := va_S.rf
  have hl : lv_has ls 3 [(0, .ref mo), (1, .int x)] := hl
  have hn60 := hI.1.2
  refine lv_aload_n hx hb dX3_release_0 rfl (lv_at hl 0 rfl) ?_
  refine lv_aload_n hx hb dX3_release_1 rfl (lv_at hl 0 rfl) ?_
  refine lv_iload_n hx hb dX3_release_2 rfl (lv_at hl 1 rfl) ?_
  refine lv_iconst (v := 0) hx hb dX3_release_3 (by decide) ?_
  refine zc_i (zr_V (As := [.int x, .int 0]) (rest := [.ref mo]) ⟨hx, hb, hml, hown, hts⟩ (ct_X3_kindCode l g A mo ma X x 0 hI) zn_X3_kindCode (lw_V q1185 q1187 qs23 q48 q1188) rfl (by decide) (by decide) hK (fun _ h => h) hS hX (zx_recv hK hX) rfl hl.1 (Nat.le_of_ble_eq_true rfl) dX3_release_4 ⟨Nat.le_refl _, Nat.le_refl _⟩) hS (fun _ h => h) (fun r _ H locs r_1 hX _ _ hS => ?_)
  subst r_1
  rcases mKc_c hI x 0 with ⟨k_2, e_3⟩ | ⟨p, hp, rfl, k_2, e_3⟩ | ⟨p, hp, rfl, k_2, e_3⟩
  · refine zm_topi (y := 1) e_3 ?_
    refine zx_put hx hb hown hts hK hX hS 0 (by decide) rfl q1021 rfl rfl rfl rfl dX3_release_7 (fun H locs hX hS => ?_)
    refine lv_aload_n hx hb dX3_release_10 rfl (lv_at hl 0 rfl) ?_
    refine zx_get hx hb hown hts hK hX 0 (by decide) q1021 rfl rfl dX3_release_11 ?_
    refine zm_topi (y := 1) (by simp [zu]) ?_
    refine lv_if_le (tgt := 19) hx hb dX3_release_14 (by decide) (fun c_4 => absurd c_4 (by decide)) (fun _ => ?_)
    refine lv_iconst (v := 0) hx hb dX3_release_17 (by decide) ?_
    have e1 : (0 : Int32) = (m_release X x).1 := by first | (simp [m_release, mHd_w, mIn_w, mWs_w, mIs_w, mN_w, mK_w, mBo_w0, zu_zu, k_2, e_3]; done) | (simp [m_release, mHd_w, mIn_w, mWs_w, mIs_w, mN_w, mK_w, mBo_w0, zu_zu, k_2, e_3, zin]; done)
    have e2 : zu X 0 0 1 = (m_release X x).2 := by first | (simp [m_release, mHd_w, mIn_w, mWs_w, mIs_w, mN_w, mK_w, mBo_w0, zu_zu, k_2, e_3]; done) | (simp [m_release, mHd_w, mIn_w, mWs_w, mIs_w, mN_w, mK_w, mBo_w0, zu_zu, k_2, e_3, zin]; done)
    rw [e2] at hX
    exact ze_i hx hb hr hlocks hS dX3_release_18 (Nat.le_refl _) (Nat.le_refl _) () e1 hX
  · refine zm_topi (y := 2) e_3 ?_
    have hcp : (nI p).toNatClampNeg = p := nI_clamp (by omega)
    refine zx_put hx hb hown hts hK hX hS 0 (by decide) rfl q1021 rfl rfl rfl rfl dX3_release_7 (fun H locs hX hS => ?_)
    refine lv_aload_n hx hb dX3_release_10 rfl (lv_at hl 0 rfl) ?_
    refine zx_get hx hb hown hts hK hX 0 (by decide) q1021 rfl rfl dX3_release_11 ?_
    refine zm_topi (y := 2) (by simp [zu]) ?_
    refine lv_if_le (tgt := 19) hx hb dX3_release_14 (by decide) (fun c_5 => absurd c_5 (by decide)) (fun _ => ?_)
    refine lv_iconst (v := 0) hx hb dX3_release_17 (by decide) ?_
    have e1 : (0 : Int32) = (m_release X (nI p)).1 := by first | (simp [m_release, mHd_w, mIn_w, mWs_w, mIs_w, mN_w, mK_w, mBo_w0, zu_zu, hcp, k_2, e_3]; done) | (simp [m_release, mHd_w, mIn_w, mWs_w, mIs_w, mN_w, mK_w, mBo_w0, zu_zu, hcp, k_2, e_3, zin]; done)
    have e2 : zu X 0 0 2 = (m_release X (nI p)).2 := by first | (simp [m_release, mHd_w, mIn_w, mWs_w, mIs_w, mN_w, mK_w, mBo_w0, zu_zu, hcp, k_2, e_3]; done) | (simp [m_release, mHd_w, mIn_w, mWs_w, mIs_w, mN_w, mK_w, mBo_w0, zu_zu, hcp, k_2, e_3, zin]; done)
    rw [e2] at hX
    exact ze_i hx hb hr hlocks hS dX3_release_18 (Nat.le_refl _) (Nat.le_refl _) () e1 hX
  · refine zm_topi (y := 0) e_3 ?_
    have hcp : (nI p).toNatClampNeg = p := nI_clamp (by omega)
    refine zx_put hx hb hown hts hK hX hS 0 (by decide) rfl q1021 rfl rfl rfl rfl dX3_release_7 (fun H locs hX hS => ?_)
    refine lv_aload_n hx hb dX3_release_10 rfl (lv_at hl 0 rfl) ?_
    refine zx_get hx hb hown hts hK hX 0 (by decide) q1021 rfl rfl dX3_release_11 ?_
    refine zm_topi (y := 0) (by simp [zu]) ?_
    refine lv_if_le (tgt := 19) hx hb dX3_release_14 (by decide) (fun _ => ?_) (fun c_6 => absurd (by decide) c_6)
    refine lv_aload_n hx hb dX3_release_19 rfl (lv_at hl 0 rfl) ?_
    refine lv_iload_n hx hb dX3_release_20 rfl (lv_at hl 1 rfl) ?_
    refine zc_i (zr_V (As := [.int (nI p)]) (rest := []) ⟨hx, hb, hml, hown, hts⟩ (ct_X3_barOf l g A mo ma (zu X 0 0 0) p (hI.w 0 0 0 (by decide) (by decide) (by decide)) (by omega) (by intro p; simpa [zu, m_moves, m_ends] using hz9 p) (by intro p; simpa [zu, m_moves, m_ends] using hz10 p)) zn_X3_barOf (lw_V q1248 q1250 qs29 q48 q1251) rfl (by decide) (by decide) hK (fun _ h => h) hS hX (zx_recv hK hX) rfl hl.1 (Nat.le_of_ble_eq_true rfl) dX3_release_21 ⟨Nat.le_refl _, Nat.le_refl _⟩) hS (fun _ h => h) (fun r _ H locs r_7 hX _ _ hS => ?_)
    subst r_7
    refine zm_topi (y := mBo X p) (by simp [mN_w, mIs_w, mKc_w, mHd_w, mIi_w, mIn_w, mK_w, mH_w, mM_w, mW_w, zu, mBo_w0]) ?_
    refine lv_bipush (v := 100) hx hb dX3_release_24 (by decide) ?_
    refine lv_idiv hx hb dX3_release_26 (by decide) ?_
    refine lv_istore_n (lv' := [(2, .int ((mBo X p) / 100)), (0, .ref mo), (1, .int (nI p))]) hx hb dX3_release_27 rfl hl (by decide) rfl (fun ls hl => ?_)
    refine lv_aload_n hx hb dX3_release_28 rfl (lv_at hl 1 rfl) ?_
    refine zx_get hx hb hown hts hK hX 11 (by decide) q1032 rfl rfl dX3_release_29 ?_
    refine lv_iload_n hx hb dX3_release_32 rfl (lv_at hl 2 rfl) ?_
    refine lv_iload_n hx hb dX3_release_33 rfl (lv_at hl 0 rfl) ?_
    refine lv_if_ne (tgt := 41) hx hb dX3_release_34 (by decide) (fun c_8 => ?_) (fun c_8 => ?_)
    · refine lv_iconst (v := 0) hx hb dX3_release_41 (by decide) ?_
      refine zx_stz (i := p) hx hb hK hX hS 11 rfl rfl (n := 60) rfl (by omega) (Or.inl rfl) dX3_release_42 (fun H locs hX hS => ?_)
      refine lv_iload_n hx hb dX3_release_43 rfl (lv_at hl 0 rfl) ?_
      have e1 : ((mBo X p) / 100 : Int32) = (m_release X (nI p)).1 := by first | (simp [m_release, mHd_w, mIn_w, mWs_w, mIs_w, mN_w, mK_w, mBo_w0, zu_zu, hcp, k_2, e_3, c_8]; done) | (simp [m_release, mHd_w, mIn_w, mWs_w, mIs_w, mN_w, mK_w, mBo_w0, zu_zu, hcp, k_2, e_3, c_8, zin]; done)
      have e2 : zu (zu X 0 0 0) 11 p 0 = (m_release X (nI p)).2 := by first | (simp [m_release, mHd_w, mIn_w, mWs_w, mIs_w, mN_w, mK_w, mBo_w0, zu_zu, hcp, k_2, e_3, c_8]; done) | (simp [m_release, mHd_w, mIn_w, mWs_w, mIs_w, mN_w, mK_w, mBo_w0, zu_zu, hcp, k_2, e_3, c_8, zin]; done)
      rw [e2] at hX
      exact ze_i hx hb hr hlocks hS dX3_release_44 (Nat.le_refl _) (Nat.le_refl _) () e1 hX
    · refine lv_iconst (v := 1) hx hb dX3_release_37 (by decide) ?_
      refine lv_goto (tgt := 42) hx hb dX3_release_38 (by decide) ?_
      refine zx_stz (i := p) hx hb hK hX hS 11 rfl rfl (n := 60) rfl (by omega) (Or.inr rfl) dX3_release_42 (fun H locs hX hS => ?_)
      refine lv_iload_n hx hb dX3_release_43 rfl (lv_at hl 0 rfl) ?_
      have e1 : ((mBo X p) / 100 : Int32) = (m_release X (nI p)).1 := by first | (simp [m_release, mHd_w, mIn_w, mWs_w, mIs_w, mN_w, mK_w, mBo_w0, zu_zu, hcp, k_2, e_3, c_8]; done) | (simp [m_release, mHd_w, mIn_w, mWs_w, mIs_w, mN_w, mK_w, mBo_w0, zu_zu, hcp, k_2, e_3, c_8, zin]; done)
      have e2 : zu (zu X 0 0 0) 11 p 1 = (m_release X (nI p)).2 := by first | (simp [m_release, mHd_w, mIn_w, mWs_w, mIs_w, mN_w, mK_w, mBo_w0, zu_zu, hcp, k_2, e_3, c_8]; done) | (simp [m_release, mHd_w, mIn_w, mWs_w, mIs_w, mN_w, mK_w, mBo_w0, zu_zu, hcp, k_2, e_3, c_8, zin]; done)
      rw [e2] at hX
      exact ze_i hx hb hr hlocks hS dX3_release_44 (Nat.le_refl _) (Nat.le_refl _) () e1 hX
