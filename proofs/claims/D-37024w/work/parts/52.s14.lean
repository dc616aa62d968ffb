theorem zn_X1_give : zN yX1_give 3 := by decide +kernel
set_option maxHeartbeats 4000000 in
theorem ct_X1_give (l : Launch) (g : zG) (A : Nat → Prop) (S : zS) (X : zX) (hW : zWo S X) (b : Bool) : ∀ (f one mv : Nat) (s : zG3) (T : zT) (hY : zSy (S.gv s) g X T) (hone : one ≤ S.Wt.length) (hf : S.Wt.length < one + f), Met l yX1_give (ws_ yX1_give cX1_give 6 none) (zR (f + 5) 0 0) (zP [.ref (S.A 0), .int (nI one), .int (nI mv), .int (zb b)] g A (zTH g A T)) (va_Qv (fun (T1 : zT) => zSy (S.gv (zgv S.Wt b f one mv s)) g X T1) (fun T1 t => zTH g A T1 t.heap) A) 0 0 A := by
  intro f
  have hlen := hW.1.1
  induction f with
  | zero => intro one mv s T hY hone hf; omega
  | succ f IH =>
    intro one mv s T hY hone hf
    refine zb_met (by decide) (Nat.le_of_ble_eq_true rfl) ?_
    intro p e s_ m args below meth c ls hx hb hr hml hown hts hlocks hnm hK hT ha_ hl
    have hown : s_.vm.findClass RX1 = some m.cls := hown
    have hS : va_S A s_.heap s_.heap [] := va_S.rf
    have hl : lv_has ls 6 [(0, .ref (S.A 0)), (1, .int (nI one)), (2, .int (nI mv)), (3, .int (zb b))] := hl
    refine lv_iload_n hx hb dX1_give_0 rfl (lv_at hl 2 rfl) ?_
    refine lv_iload_n hx hb dX1_give_1 rfl (lv_at hl 3 rfl) ?_
    refine zl_ifeq (tgt := 12) hx hb dX1_give_2 (by decide) (fun c_1 => ?_) (fun c_1 => ?_)
    · refine lv_sipush (v := 1000) hx hb dX1_give_12 (by decide) ?_
      refine zm_topi (y := if b = true then s.1 else 1000) (by rw [if_neg (by rw [c_1]; decide)]) ?_
      refine lv_icmp_lt (tgt := 19) hx hb dX1_give_15 (by decide) (fun c_2 => ?_) (fun c_2 => ?_)
      · refine lv_iload_n hx hb dX1_give_19 rfl (lv_at hl 1 rfl) ?_
        refine lv_aload_n hx hb dX1_give_20 rfl (lv_at hl 0 rfl) ?_
        refine zt_get hx hb hts in_X1 hown hK.1 hT hY.w rfl 5 (by decide) (hts _ q182) (fun _ h => h) rfl dX1_give_21 ?_
        refine zc_i (zr_V (As := []) (rest := [.int (nI one)]) ⟨hx, hb, hml, hown, hts⟩ (ct_J2_size l g A T _ ((S.gv s).mu 7) _ hY.wl) zn_J2_size (lw_V q225 q226 q227 q43 q228) rfl (by omega) (by decide) hK (fun _ h => h) hS hT (zt_recvL hK.1 hT hY.wl) rfl hl.1 (Nat.le_of_ble_eq_true rfl) dX1_give_24 ⟨by show _ + 0 ≤ _; omega, by show _ + 0 ≤ _; omega⟩) hS (fun _ h => h) (fun r _ H locs hr1 hT _ _ hS => ?_)
        subst hr1
        refine zm_topi (y := nI (S.Wt.length)) (by first | (simp; done) | exact congrArg nI (List.length_map _)) ?_
        refine zl_ne (tgt := 59) (a := one) (b := S.Wt.length) hx hb (by first | decide | omega) (by first | decide | omega) dX1_give_27 (by decide) (fun c_3 => ?_) (fun c_3 => ?_)
        · refine lv_iconst (v := 0) hx hb dX1_give_59 (by decide) ?_
          refine lv_istore (lv' := [(4, .int 0), (0, .ref (S.A 0)), (1, .int (nI one)), (2, .int (nI mv)), (3, .int (zb b))]) hx hb dX1_give_60 hl (by decide) rfl (fun ls hl => ?_)
          have L_5 : ∀ (n_4 : Nat) (r : Nat) (T : zT), (4 - r) < n_4 → (r ≤ 3) → (zSy (S.gv ((List.range r).foldl (zgs (zgv S.Wt b f) S.Wt one mv) s)) g X T) → ∀ (H : Heap) (locs : List Loc) (ls : Array Slot), zTH g A T H → va_S A s_.heap H locs → lv_has ls 6 [(4, .int (nI r)), (0, .ref (S.A 0)), (1, .int (nI one)), (2, .int (nI mv)), (3, .int (zb b))] → W p l e (zR (f + 1 + 5) 0 0) s_ m args below meth c H locs 0 0 (MQ below (va_Qv (fun (T1 : zT) => zSy (S.gv (zgv S.Wt b (f + 1) one mv s)) g X T1) (fun T1 t => zTH g A T1 t.heap) A) args s_ 0 0 A) (F0 m 62 ls []) := by
            intro n_4
            induction n_4 with
            | zero => intro r T hm; exact absurd hm (Nat.not_lt_zero _)
            | succ n_4 ih =>
              intro r T hm hr3 hY H locs ls hT hS hl
              have ih_6 := ih
              obtain ⟨u, eu⟩ : ∃ u, u = (List.range r).foldl (zgs (zgv S.Wt b f) S.Wt one mv) s := ⟨_, rfl⟩
              rw [← eu] at hY
              have hWu : zWo (S.gv u) X := hW
              refine lv_iload hx hb dX1_give_62 (lv_at hl 0 rfl) ?_
              refine lv_iconst (v := 3) hx hb dX1_give_64 (by decide) ?_
              refine zl_ge (tgt := 103) (a := r) (b := 3) hx hb (by first | decide | omega) (by first | decide | omega) dX1_give_65 (by decide) (fun c_7 => ?_) (fun c_7 => ?_)
              · refine lv_aload_n hx hb dX1_give_103 rfl (lv_at hl 1 rfl) ?_
                refine zt_get hx hb hts in_X1 hown hK.1 hT hY.w rfl 7 (by decide) (hts _ q184) (fun _ h => h) rfl dX1_give_104 ?_
                refine lv_iload_n hx hb dX1_give_107 rfl (lv_at hl 2 rfl) ?_
                refine lv_iconst (v := (-1)) hx hb dX1_give_108 (by decide) ?_
                refine zt_ist (k := one) hx hb hK.1 hT hS hY.a9 (by omega) (by decide) dX1_give_109 (fun H locs hT hS => ?_)
                obtain ⟨T, hT, hY⟩ : ∃ T1, zTH g A T1 H ∧ zSy (S.gv (u.1, va_up u.2.1 one (-1), u.2.2)) g X T1 := ⟨_, hT, hY.tf _⟩
                exact ze_v hx hb hr hlocks hS dX1_give_110 (by show _ ≤ 0; omega) (by show _ ≤ 0; omega) T (by unfold zgv; rw [if_pos c_2, if_neg (by omega)]; rw [show r = 3 by omega] at eu; rw [← eu]; exact hY) hT
              · refine lv_aload_n hx hb dX1_give_68 rfl (lv_at hl 1 rfl) ?_
                refine lv_iload_n hx hb dX1_give_69 rfl (lv_at hl 2 rfl) ?_
                refine lv_iload hx hb dX1_give_70 (lv_at hl 0 rfl) ?_
                refine zc_i (zr_V (As := [.int (nI one), .int (nI r)]) (rest := []) ⟨hx, hb, hml, hown, hts⟩ (ct_X1_moves l g A (S.gv u) X _ hY hWu one (show one < S.Wt.length by omega) (nI r)) zn_X1_moves (lw_V q230 q232 qs5 q39 q233) rfl (by omega) (by decide) hK (fun _ h => h) hS hT (zt_recv hK.1 hT hY.w rfl) rfl hl.1 (Nat.le_of_ble_eq_true rfl) dX1_give_72 ⟨by show _ + 0 ≤ _; omega, by show _ + 0 ≤ _; omega⟩) hS (fun _ h => h) (fun r_ _ H locs hr1 hT _ _ hS => ?_)
                subst hr1
                refine zm_topi (y := nI (zsm S.Wt u.2.1 one (nI r))) rfl ?_
                refine lv_istore (lv' := [(5, .int (nI (zsm S.Wt u.2.1 one (nI r)))), (4, .int (nI r)), (0, .ref (S.A 0)), (1, .int (nI one)), (2, .int (nI mv)), (3, .int (zb b))]) hx hb dX1_give_75 hl (by decide) rfl (fun ls hl => ?_)
                refine lv_aload_n hx hb dX1_give_77 rfl (lv_at hl 2 rfl) ?_
                refine zt_get hx hb hts in_X1 hown hK.1 hT hY.w rfl 7 (by decide) (hts _ q184) (fun _ h => h) rfl dX1_give_78 ?_
                refine lv_iload_n hx hb dX1_give_81 rfl (lv_at hl 3 rfl) ?_
                refine lv_iload hx hb dX1_give_82 (lv_at hl 1 rfl) ?_
                refine zt_ist (k := one) hx hb hK.1 hT hS hY.a9 (by omega) (by decide) dX1_give_84 (fun H locs hT hS => ?_)
                obtain ⟨T, hT, hY⟩ : ∃ T1, zTH g A T1 H ∧ zSy (S.gv (u.1, va_up u.2.1 one (nI r), u.2.2)) g X T1 := ⟨_, hT, hY.tf _⟩
                refine lv_aload_n hx hb dX1_give_85 rfl (lv_at hl 2 rfl) ?_
                refine lv_iload_n hx hb dX1_give_86 rfl (lv_at hl 3 rfl) ?_
                refine lv_iconst (v := 1) hx hb dX1_give_87 (by decide) ?_
                refine lv_iadd hx hb dX1_give_88 ?_
                refine zm_topi (y := nI (one + 1)) (nI_1 one) ?_
                refine lv_iload_n hx hb dX1_give_89 rfl (lv_at hl 4 rfl) ?_
                refine lv_iload hx hb dX1_give_90 (lv_at hl 0 rfl) ?_
                refine lv_iadd hx hb dX1_give_92 ?_
                refine zm_topi (y := nI (mv + (zsm S.Wt u.2.1 one (nI r)))) (nI_add mv (zsm S.Wt u.2.1 one (nI r))) ?_
                refine lv_iload_n hx hb dX1_give_93 rfl (lv_at hl 5 rfl) ?_
                refine zc_v (zr_V (As := [.int (nI (one + 1)), .int (nI (mv + (zsm S.Wt u.2.1 one (nI r)))), .int (zb b)]) (rest := []) ⟨hx, hb, hml, hown, hts⟩ (IH (one + 1) (mv + zsm S.Wt u.2.1 one (nI r)) (u.1, va_up u.2.1 one (nI r), u.2.2) _ hY (by omega) (by omega)) zn_X1_give (lw_V q221 q223 qs4 q39 q224) rfl (by omega) (by decide) hK (fun _ h => h) hS hT (zt_recv hK.1 hT hY.w rfl) rfl hl.1 (Nat.le_of_ble_eq_true rfl) dX1_give_94 ⟨by show _ + 0 ≤ _; omega, by show _ + 0 ≤ _; omega⟩) hS (fun _ h => h) (fun T H locs hY hT _ _ hS => ?_)
                have hY2 : zSy (S.gv ((List.range (r + 1)).foldl (zgs (zgv S.Wt b f) S.Wt one mv) s)) g X T := by rw [zgs_s, ← eu]; exact hY
                refine lv_iinc (v := nI (r + 1)) (lv' := [(4, .int (nI (r + 1))), (5, .int (nI (zsm S.Wt u.2.1 one (nI r)))), (0, .ref (S.A 0)), (1, .int (nI one)), (2, .int (nI mv)), (3, .int (zb b))]) hx hb dX1_give_97 hl (k := 1) rfl (nI_1 r) (by decide) rfl (fun ls hl => ?_)
                refine lv_goto (tgt := 62) hx hb dX1_give_100 (by decide) ?_
                exact ih_6 (r + 1) T (by omega) (by omega) hY2 _ _ _ hT hS (lv_sub hl [0, 2, 3, 4, 5] rfl)
          exact L_5 ((4 - 0) + 1) 0 T (Nat.lt_succ_self _) (by decide) hY _ _ _ hT hS (lv_sub hl [0, 1, 2, 3, 4] rfl)
        · refine lv_iload_n hx hb dX1_give_30 rfl (lv_at hl 2 rfl) ?_
          refine lv_aload_n hx hb dX1_give_31 rfl (lv_at hl 0 rfl) ?_
          refine zt_get hx hb hts in_X1 hown hK.1 hT hY.w rfl 9 (by decide) (hts _ q186) (fun _ h => h) rfl dX1_give_32 ?_
          refine lv_icmp_ge (tgt := 58) hx hb dX1_give_35 (by decide) (fun c_8 => ?_) (fun c_8 => ?_)
          · exact ze_v hx hb hr hlocks hS dX1_give_58 (by show _ ≤ 0; omega) (by show _ ≤ 0; omega) T (by unfold zgv; rw [if_pos c_2, if_pos c_3, if_neg (show ¬ nI mv < s.1 from Int32.not_lt.mpr c_8)]; exact hY) hT
          · refine lv_aload_n hx hb dX1_give_38 rfl (lv_at hl 0 rfl) ?_
            refine lv_iload_n hx hb dX1_give_39 rfl (lv_at hl 2 rfl) ?_
            refine zt_put hx hb hts in_X1 tyX1 tyX1_ok nmX1 hown hK.1 hT hS hY.w rfl 9 (by decide) (hts _ q186) (fun _ h => h) rfl (v := .int (nI mv)) (tyX1_ok 9 (by decide)) rfl rfl (show 9 < 10 from by decide) dX1_give_40 (fun H locs hT hS => ?_)
            obtain ⟨T, hT, hY⟩ : ∃ T1, zTH g A T1 H ∧ zSy (S.gv (nI mv, s.2.1, s.2.2)) g X T1 := ⟨_, hT, hY.few (nI mv) rfl⟩
            refine lv_aload_n hx hb dX1_give_43 rfl (lv_at hl 0 rfl) ?_
            refine zt_get hx hb hts in_X1 hown hK.1 hT hY.w rfl 7 (by decide) (hts _ q184) (fun _ h => h) rfl dX1_give_44 ?_
            refine lv_iconst (v := 0) hx hb dX1_give_47 (by decide) ?_
            refine lv_aload_n hx hb dX1_give_48 rfl (lv_at hl 0 rfl) ?_
            refine zt_get hx hb hts in_X1 hown hK.1 hT hY.w rfl 8 (by decide) (hts _ q185) (fun _ h => h) rfl dX1_give_49 ?_
            refine lv_iconst (v := 0) hx hb dX1_give_52 (by decide) ?_
            refine lv_bipush (v := 8) hx hb dX1_give_53 (by decide) ?_
            refine zt_copyI hx hb (by rw [hml]; exact hl.1.symm) hown (hts _ q229) (hts _ q174) (hts _ q173) (hts _ q47) hK.1 hT hS (sp := 0) (dp := 0) (n := 8) hY.a9 hY.a10 (hT.own hY.a10) (by decide) (by decide) (by decide) (by decide) (by decide) (by show 1 ≤ f + 1 + 5; omega) (Nat.le_trans (m := 160) (by decide +kernel) (by show 160 ≤ 32 * (f + 1 + 5); omega)) dX1_give_55 (fun H locs hT hS => ?_)
            obtain ⟨T, hT, hY⟩ : ∃ T1, zTH g A T1 H ∧ zSy (S.gv (nI mv, s.2.1, va_cpy s.2.1 s.2.2 0 0 8)) g X T1 := ⟨_, hT, hY.bf _⟩
            exact ze_v hx hb hr hlocks hS dX1_give_58 (by show _ ≤ 0; omega) (by show _ ≤ 0; omega) T (by unfold zgv; rw [if_pos c_2, if_pos c_3, if_pos (show nI mv < s.1 from Int32.not_le.mp c_8)]; exact hY) hT
      · exact ze_v hx hb hr hlocks hS dX1_give_18 (by show _ ≤ 0; omega) (by show _ ≤ 0; omega) T (by unfold zgv; rw [if_neg c_2]; exact hY) hT
    · refine lv_aload_n hx hb dX1_give_5 rfl (lv_at hl 0 rfl) ?_
      refine zt_get hx hb hts in_X1 hown hK.1 hT hY.w rfl 9 (by decide) (hts _ q186) (fun _ h => h) rfl dX1_give_6 ?_
      refine lv_goto (tgt := 15) hx hb dX1_give_9 (by decide) ?_
      refine zm_topi (y := if b = true then s.1 else 1000) (by rw [if_pos c_1]; rfl) ?_
      refine lv_icmp_lt (tgt := 19) hx hb dX1_give_15 (by decide) (fun c_9 => ?_) (fun c_9 => ?_)
      · refine lv_iload_n hx hb dX1_give_19 rfl (lv_at hl 1 rfl) ?_
        refine lv_aload_n hx hb dX1_give_20 rfl (lv_at hl 0 rfl) ?_
        refine zt_get hx hb hts in_X1 hown hK.1 hT hY.w rfl 5 (by decide) (hts _ q182) (fun _ h => h) rfl dX1_give_21 ?_
        refine zc_i (zr_V (As := []) (rest := [.int (nI one)]) ⟨hx, hb, hml, hown, hts⟩ (ct_J2_size l g A T _ ((S.gv s).mu 7) _ hY.wl) zn_J2_size (lw_V q225 q226 q227 q43 q228) rfl (by omega) (by decide) hK (fun _ h => h) hS hT (zt_recvL hK.1 hT hY.wl) rfl hl.1 (Nat.le_of_ble_eq_true rfl) dX1_give_24 ⟨by show _ + 0 ≤ _; omega, by show _ + 0 ≤ _; omega⟩) hS (fun _ h => h) (fun r _ H locs hr1 hT _ _ hS => ?_)
        subst hr1
        refine zm_topi (y := nI (S.Wt.length)) (by first | (simp; done) | exact congrArg nI (List.length_map _)) ?_
        refine zl_ne (tgt := 59) (a := one) (b := S.Wt.length) hx hb (by first | decide | omega) (by first | decide | omega) dX1_give_27 (by decide) (fun c_10 => ?_) (fun c_10 => ?_)
        · refine lv_iconst (v := 0) hx hb dX1_give_59 (by decide) ?_
          refine lv_istore (lv' := [(4, .int 0), (0, .ref (S.A 0)), (1, .int (nI one)), (2, .int (nI mv)), (3, .int (zb b))]) hx hb dX1_give_60 hl (by decide) rfl (fun ls hl => ?_)
          have L_12 : ∀ (n_11 : Nat) (r : Nat) (T : zT), (4 - r) < n_11 → (r ≤ 3) → (zSy (S.gv ((List.range r).foldl (zgs (zgv S.Wt b f) S.Wt one mv) s)) g X T) → ∀ (H : Heap) (locs : List Loc) (ls : Array Slot), zTH g A T H → va_S A s_.heap H locs → lv_has ls 6 [(4, .int (nI r)), (0, .ref (S.A 0)), (1, .int (nI one)), (2, .int (nI mv)), (3, .int (zb b))] → W p l e (zR (f + 1 + 5) 0 0) s_ m args below meth c H locs 0 0 (MQ below (va_Qv (fun (T1 : zT) => zSy (S.gv (zgv S.Wt b (f + 1) one mv s)) g X T1) (fun T1 t => zTH g A T1 t.heap) A) args s_ 0 0 A) (F0 m 62 ls []) := by
            intro n_11
            induction n_11 with
            | zero => intro r T hm; exact absurd hm (Nat.not_lt_zero _)
            | succ n_11 ih =>
              intro r T hm hr3 hY H locs ls hT hS hl
              have ih_13 := ih
              obtain ⟨u, eu⟩ : ∃ u, u = (List.range r).foldl (zgs (zgv S.Wt b f) S.Wt one mv) s := ⟨_, rfl⟩
              rw [← eu] at hY
              have hWu : zWo (S.gv u) X := hW
              refine lv_iload hx hb dX1_give_62 (lv_at hl 0 rfl) ?_
              refine lv_iconst (v := 3) hx hb dX1_give_64 (by decide) ?_
              refine zl_ge (tgt := 103) (a := r) (b := 3) hx hb (by first | decide | omega) (by first | decide | omega) dX1_give_65 (by decide) (fun c_14 => ?_) (fun c_14 => ?_)
              · refine lv_aload_n hx hb dX1_give_103 rfl (lv_at hl 1 rfl) ?_
                refine zt_get hx hb hts in_X1 hown hK.1 hT hY.w rfl 7 (by decide) (hts _ q184) (fun _ h => h) rfl dX1_give_104 ?_
                refine lv_iload_n hx hb dX1_give_107 rfl (lv_at hl 2 rfl) ?_
                refine lv_iconst (v := (-1)) hx hb dX1_give_108 (by decide) ?_
                refine zt_ist (k := one) hx hb hK.1 hT hS hY.a9 (by omega) (by decide) dX1_give_109 (fun H locs hT hS => ?_)
                obtain ⟨T, hT, hY⟩ : ∃ T1, zTH g A T1 H ∧ zSy (S.gv (u.1, va_up u.2.1 one (-1), u.2.2)) g X T1 := ⟨_, hT, hY.tf _⟩
                exact ze_v hx hb hr hlocks hS dX1_give_110 (by show _ ≤ 0; omega) (by show _ ≤ 0; omega) T (by unfold zgv; rw [if_pos c_9, if_neg (by omega)]; rw [show r = 3 by omega] at eu; rw [← eu]; exact hY) hT
              · refine lv_aload_n hx hb dX1_give_68 rfl (lv_at hl 1 rfl) ?_
                refine lv_iload_n hx hb dX1_give_69 rfl (lv_at hl 2 rfl) ?_
                refine lv_iload hx hb dX1_give_70 (lv_at hl 0 rfl) ?_
                refine zc_i (zr_V (As := [.int (nI one), .int (nI r)]) (rest := []) ⟨hx, hb, hml, hown, hts⟩ (ct_X1_moves l g A (S.gv u) X _ hY hWu one (show one < S.Wt.length by omega) (nI r)) zn_X1_moves (lw_V q230 q232 qs5 q39 q233) rfl (by omega) (by decide) hK (fun _ h => h) hS hT (zt_recv hK.1 hT hY.w rfl) rfl hl.1 (Nat.le_of_ble_eq_true rfl) dX1_give_72 ⟨by show _ + 0 ≤ _; omega, by show _ + 0 ≤ _; omega⟩) hS (fun _ h => h) (fun r_ _ H locs hr1 hT _ _ hS => ?_)
                subst hr1
                refine zm_topi (y := nI (zsm S.Wt u.2.1 one (nI r))) rfl ?_
                refine lv_istore (lv' := [(5, .int (nI (zsm S.Wt u.2.1 one (nI r)))), (4, .int (nI r)), (0, .ref (S.A 0)), (1, .int (nI one)), (2, .int (nI mv)), (3, .int (zb b))]) hx hb dX1_give_75 hl (by decide) rfl (fun ls hl => ?_)
                refine lv_aload_n hx hb dX1_give_77 rfl (lv_at hl 2 rfl) ?_
                refine zt_get hx hb hts in_X1 hown hK.1 hT hY.w rfl 7 (by decide) (hts _ q184) (fun _ h => h) rfl dX1_give_78 ?_
                refine lv_iload_n hx hb dX1_give_81 rfl (lv_at hl 3 rfl) ?_
                refine lv_iload hx hb dX1_give_82 (lv_at hl 1 rfl) ?_
                refine zt_ist (k := one) hx hb hK.1 hT hS hY.a9 (by omega) (by decide) dX1_give_84 (fun H locs hT hS => ?_)
                obtain ⟨T, hT, hY⟩ : ∃ T1, zTH g A T1 H ∧ zSy (S.gv (u.1, va_up u.2.1 one (nI r), u.2.2)) g X T1 := ⟨_, hT, hY.tf _⟩
                refine lv_aload_n hx hb dX1_give_85 rfl (lv_at hl 2 rfl) ?_
                refine lv_iload_n hx hb dX1_give_86 rfl (lv_at hl 3 rfl) ?_
                refine lv_iconst (v := 1) hx hb dX1_give_87 (by decide) ?_
                refine lv_iadd hx hb dX1_give_88 ?_
                refine zm_topi (y := nI (one + 1)) (nI_1 one) ?_
                refine lv_iload_n hx hb dX1_give_89 rfl (lv_at hl 4 rfl) ?_
                refine lv_iload hx hb dX1_give_90 (lv_at hl 0 rfl) ?_
                refine lv_iadd hx hb dX1_give_92 ?_
                refine zm_topi (y := nI (mv + (zsm S.Wt u.2.1 one (nI r)))) (nI_add mv (zsm S.Wt u.2.1 one (nI r))) ?_
                refine lv_iload_n hx hb dX1_give_93 rfl (lv_at hl 5 rfl) ?_
                refine zc_v (zr_V (As := [.int (nI (one + 1)), .int (nI (mv + (zsm S.Wt u.2.1 one (nI r)))), .int (zb b)]) (rest := []) ⟨hx, hb, hml, hown, hts⟩ (IH (one + 1) (mv + zsm S.Wt u.2.1 one (nI r)) (u.1, va_up u.2.1 one (nI r), u.2.2) _ hY (by omega) (by omega)) zn_X1_give (lw_V q221 q223 qs4 q39 q224) rfl (by omega) (by decide) hK (fun _ h => h) hS hT (zt_recv hK.1 hT hY.w rfl) rfl hl.1 (Nat.le_of_ble_eq_true rfl) dX1_give_94 ⟨by show _ + 0 ≤ _; omega, by show _ + 0 ≤ _; omega⟩) hS (fun _ h => h) (fun T H locs hY hT _ _ hS => ?_)
                have hY2 : zSy (S.gv ((List.range (r + 1)).foldl (zgs (zgv S.Wt b f) S.Wt one mv) s)) g X T := by rw [zgs_s, ← eu]; exact hY
                refine lv_iinc (v := nI (r + 1)) (lv' := [(4, .int (nI (r + 1))), (5, .int (nI (zsm S.Wt u.2.1 one (nI r)))), (0, .ref (S.A 0)), (1, .int (nI one)), (2, .int (nI mv)), (3, .int (zb b))]) hx hb dX1_give_97 hl (k := 1) rfl (nI_1 r) (by decide) rfl (fun ls hl => ?_)
                refine lv_goto (tgt := 62) hx hb dX1_give_100 (by decide) ?_
                exact ih_13 (r + 1) T (by omega) (by omega) hY2 _ _ _ hT hS (lv_sub hl [0, 2, 3, 4, 5] rfl)
          exact L_12 ((4 - 0) + 1) 0 T (Nat.lt_succ_self _) (by decide) hY _ _ _ hT hS (lv_sub hl [0, 1, 2, 3, 4] rfl)
        · refine lv_iload_n hx hb dX1_give_30 rfl (lv_at hl 2 rfl) ?_
          refine lv_aload_n hx hb dX1_give_31 rfl (lv_at hl 0 rfl) ?_
          refine zt_get hx hb hts in_X1 hown hK.1 hT hY.w rfl 9 (by decide) (hts _ q186) (fun _ h => h) rfl dX1_give_32 ?_
          refine lv_icmp_ge (tgt := 58) hx hb dX1_give_35 (by decide) (fun c_15 => ?_) (fun c_15 => ?_)
          · exact ze_v hx hb hr hlocks hS dX1_give_58 (by show _ ≤ 0; omega) (by show _ ≤ 0; omega) T (by unfold zgv; rw [if_pos c_9, if_pos c_10, if_neg (show ¬ nI mv < s.1 from Int32.not_lt.mpr c_15)]; exact hY) hT
          · refine lv_aload_n hx hb dX1_give_38 rfl (lv_at hl 0 rfl) ?_
            refine lv_iload_n hx hb dX1_give_39 rfl (lv_at hl 2 rfl) ?_
            refine zt_put hx hb hts in_X1 tyX1 tyX1_ok nmX1 hown hK.1 hT hS hY.w rfl 9 (by decide) (hts _ q186) (fun _ h => h) rfl (v := .int (nI mv)) (tyX1_ok 9 (by decide)) rfl rfl (show 9 < 10 from by decide) dX1_give_40 (fun H locs hT hS => ?_)
            obtain ⟨T, hT, hY⟩ : ∃ T1, zTH g A T1 H ∧ zSy (S.gv (nI mv, s.2.1, s.2.2)) g X T1 := ⟨_, hT, hY.few (nI mv) rfl⟩
            refine lv_aload_n hx hb dX1_give_43 rfl (lv_at hl 0 rfl) ?_
            refine zt_get hx hb hts in_X1 hown hK.1 hT hY.w rfl 7 (by decide) (hts _ q184) (fun _ h => h) rfl dX1_give_44 ?_
            refine lv_iconst (v := 0) hx hb dX1_give_47 (by decide) ?_
            refine lv_aload_n hx hb dX1_give_48 rfl (lv_at hl 0 rfl) ?_
            refine zt_get hx hb hts in_X1 hown hK.1 hT hY.w rfl 8 (by decide) (hts _ q185) (fun _ h => h) rfl dX1_give_49 ?_
            refine lv_iconst (v := 0) hx hb dX1_give_52 (by decide) ?_
            refine lv_bipush (v := 8) hx hb dX1_give_53 (by decide) ?_
            refine zt_copyI hx hb (by rw [hml]; exact hl.1.symm) hown (hts _ q229) (hts _ q174) (hts _ q173) (hts _ q47) hK.1 hT hS (sp := 0) (dp := 0) (n := 8) hY.a9 hY.a10 (hT.own hY.a10) (by decide) (by decide) (by decide) (by decide) (by decide) (by show 1 ≤ f + 1 + 5; omega) (Nat.le_trans (m := 160) (by decide +kernel) (by show 160 ≤ 32 * (f + 1 + 5); omega)) dX1_give_55 (fun H locs hT hS => ?_)
            obtain ⟨T, hT, hY⟩ : ∃ T1, zTH g A T1 H ∧ zSy (S.gv (nI mv, s.2.1, va_cpy s.2.1 s.2.2 0 0 8)) g X T1 := ⟨_, hT, hY.bf _⟩
            exact ze_v hx hb hr hlocks hS dX1_give_58 (by show _ ≤ 0; omega) (by show _ ≤ 0; omega) T (by unfold zgv; rw [if_pos c_9, if_pos c_10, if_pos (show nI mv < s.1 from Int32.not_le.mp c_15)]; exact hY) hT
      · exact ze_v hx hb hr hlocks hS dX1_give_18 (by show _ ≤ 0; omega) (by show _ ≤ 0; omega) T (by unfold zgv; rw [if_neg c_9]; exact hY) hT
def zsr (S : zS) (b : Bool) : zG3 := zgv S.Wt b 9 0 0 (1000, S.tf, S.bf)
theorem zn_X1_search : zN yX1_search 1 := by decide +kernel
set_option maxHeartbeats 4000000 in
theorem ct_X1_search (l : Launch) (g : zG) (A : Nat → Prop) (S : zS) (X : zX) (T : zT) (hY : zSy S g X T) (hW : zWo S X) (b : Bool) : Met l yX1_search (ws_ yX1_search cX1_search 2 (some .int)) (zR 15 0 0) (zP [.ref (S.A 0), .int (zb b)] g A (zTH g A T)) (va_Qi (fun rz_ (T1 : zT) => rz_ = (zsr S b).1 ∧ zSy (S.gv (zsr S b)) g X T1) (fun T1 t => zTH g A T1 t.heap) A) 0 0 A := by
  refine zb_met (by decide) (Nat.le_of_ble_eq_true rfl) ?_
  intro p e s m args below meth c ls hx hb hr hml hown hts hlocks hnm hK hT ha_ hl
  have hown : s.vm.findClass RX1 = some m.cls := hown
  have hS : va_S A s.heap s.heap [] := va_S.rf
  have hl : lv_has ls 2 [(0, .ref (S.A 0)), (1, .int (zb b))] := hl
  have hlen := hW.1.1
  refine lv_aload_n hx hb dX1_search_0 rfl (lv_at hl 0 rfl) ?_
  refine lv_sipush (v := 1000) hx hb dX1_search_1 (by decide) ?_
  refine zt_put hx hb hts in_X1 tyX1 tyX1_ok nmX1 hown hK.1 hT hS hY.w rfl 9 (by decide) (hts _ q186) (fun _ h => h) rfl (v := .int 1000) (tyX1_ok 9 (by decide)) rfl rfl (show 9 < 10 from by decide) dX1_search_4 (fun H locs hT hS => ?_)
  obtain ⟨T, hT, hY⟩ : ∃ T1, zTH g A T1 H ∧ zSy (S.gv (1000, S.tf, S.bf)) g X T1 := ⟨_, hT, hY.few 1000 rfl⟩
  refine lv_aload_n hx hb dX1_search_7 rfl (lv_at hl 0 rfl) ?_
  refine lv_iconst (v := 0) hx hb dX1_search_8 (by decide) ?_
  refine lv_iconst (v := 0) hx hb dX1_search_9 (by decide) ?_
  refine lv_iload_n hx hb dX1_search_10 rfl (lv_at hl 1 rfl) ?_
  refine zc_v (zr_V (As := [.int 0, .int 0, .int (zb b)]) (rest := []) ⟨hx, hb, hml, hown, hts⟩ (ct_X1_give l g A S X hW b 9 0 0 (1000, S.tf, S.bf) _ hY (Nat.zero_le _) (by omega)) zn_X1_give (lw_V q221 q223 qs4 q39 q224) rfl (by omega) (by decide) hK (fun _ h => h) hS hT (zt_recv hK.1 hT hY.w rfl) rfl hl.1 (Nat.le_of_ble_eq_true rfl) dX1_search_11 ⟨by show _ + 0 ≤ _; omega, by show _ + 0 ≤ _; omega⟩) hS (fun _ h => h) (fun T H locs hY hT _ _ hS => ?_)
  have hY : zSy (S.gv (zsr S b)) g X T := hY
  refine lv_aload_n hx hb dX1_search_14 rfl (lv_at hl 0 rfl) ?_
  refine zt_get hx hb hts in_X1 hown hK.1 hT hY.w rfl 9 (by decide) (hts _ q186) (fun _ h => h) rfl dX1_search_15 ?_
  exact ze_i hx hb hr hlocks hS dX1_search_18 (Nat.zero_le _) (Nat.zero_le _) T ⟨rfl, hY⟩ hT
