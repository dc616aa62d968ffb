/-! THE REFERENCE's METHODS, 5: their contracts -/
theorem zn_X3_run : zN yX3_run 3 := by decide +kernel
set_option maxHeartbeats 4000000 in
theorem ct_X3_run (l : Launch) (g : zG) (A : Nat → Prop) (mo : Nat) (ma : Nat → Nat) (X : zX) (x : Int32) (km : Int32) (se : Int32) (hI : MH X) (hz11 : ∀ p, X 11 p = 0 ∨ X 11 p = 1) (hz12 : ∀ p, X 12 p = 0 ∨ X 12 p = 1) : Met l yX3_run (ws_ yX3_run cX3_run 6 (some .int)) (zR 5 0 0) (zP [.ref mo, .int x, .int km, .int se] g A (zMX g A mo ma X)) (va_Qi (fun rz_ (_ : Unit) => rz_ = (m_run X x km se).1) (fun (_ : Unit) t => zMX g A mo ma ((m_run X x km se).2) t.heap) A) 0 0 A := by
  refine zb_met (by decide) (Nat.le_of_ble_eq_true rfl) ?_
  intro p e s m args below meth c ls hx hb hr hml hown hts hlocks hnm hK hX ha hl
  have hown : s.vm.findClass RX3 = some m.cls := hown
  have hS : va_S A s.heap s.heap [] := va_S.rf
  have hl : lv_has ls 6 [(0, .ref mo), (1, .int x), (2, .int km), (3, .int se)] := hl
  have hn60 := hI.1.2
  refine lv_aload_n hx hb dX3_run_0 rfl (lv_at hl 0 rfl) ?_
  refine lv_aload_n hx hb dX3_run_1 rfl (lv_at hl 0 rfl) ?_
  refine lv_iload_n hx hb dX3_run_2 rfl (lv_at hl 1 rfl) ?_
  refine lv_iconst (v := 0) hx hb dX3_run_3 (by decide) ?_
  refine zc_i (zr_V (As := [.int x, .int 0]) (rest := [.ref mo]) ⟨hx, hb, hml, hown, hts⟩ (ct_X3_kindCode l g A mo ma X x 0 hI) zn_X3_kindCode (lw_V q1185 q1187 qs23 q48 q1188) rfl (by decide) (by decide) hK (fun _ h => h) hS hX (zx_recv hK hX) rfl hl.1 (Nat.le_of_ble_eq_true rfl) dX3_run_4 ⟨Nat.le_refl _, Nat.le_refl _⟩) hS (fun _ h => h) (fun r _ H locs r_1 hX _ _ hS => ?_)
  subst r_1
  rcases mKc_c hI x 0 with ⟨k_2, e_3⟩ | ⟨q, hp, rfl, k_2, e_3⟩ | ⟨q, hp, rfl, k_2, e_3⟩
  · refine zm_topi (y := 1) e_3 ?_
    refine zx_put hx hb hown hts hK hX hS 0 (by decide) rfl q1021 rfl rfl rfl rfl dX3_run_7 (fun H locs hX hS => ?_)
    refine lv_aload_n hx hb dX3_run_10 rfl (lv_at hl 0 rfl) ?_
    refine zx_get hx hb hown hts hK hX 0 (by decide) q1021 rfl rfl dX3_run_11 ?_
    refine zm_topi (y := 1) (by simp [zu]) ?_
    refine lv_if_le (tgt := 19) hx hb dX3_run_14 (by decide) (fun c_4 => absurd c_4 (by decide)) (fun _ => ?_)
    refine lv_iconst (v := 0) hx hb dX3_run_17 (by decide) ?_
    have e1 : (0 : Int32) = (m_run X x km se).1 := by first | (simp [m_run, mHd_w, mIn_w, mWs_w, mIs_w, mN_w, mK_w, mBo_w0, zu_zu, k_2, e_3]; done) | (simp [m_run, mHd_w, mIn_w, mWs_w, mIs_w, mN_w, mK_w, mBo_w0, zu_zu, k_2, e_3, zin]; done)
    have e2 : zu X 0 0 1 = (m_run X x km se).2 := by first | (simp [m_run, mHd_w, mIn_w, mWs_w, mIs_w, mN_w, mK_w, mBo_w0, zu_zu, k_2, e_3]; done) | (simp [m_run, mHd_w, mIn_w, mWs_w, mIs_w, mN_w, mK_w, mBo_w0, zu_zu, k_2, e_3, zin]; done)
    rw [e2] at hX
    exact ze_i hx hb hr hlocks hS dX3_run_18 (Nat.le_refl _) (Nat.le_refl _) () e1 hX
  · refine zm_topi (y := 2) e_3 ?_
    have hcq : (nI q).toNatClampNeg = q := nI_clamp (by omega)
    refine zx_put hx hb hown hts hK hX hS 0 (by decide) rfl q1021 rfl rfl rfl rfl dX3_run_7 (fun H locs hX hS => ?_)
    refine lv_aload_n hx hb dX3_run_10 rfl (lv_at hl 0 rfl) ?_
    refine zx_get hx hb hown hts hK hX 0 (by decide) q1021 rfl rfl dX3_run_11 ?_
    refine zm_topi (y := 2) (by simp [zu]) ?_
    refine lv_if_le (tgt := 19) hx hb dX3_run_14 (by decide) (fun c_5 => absurd c_5 (by decide)) (fun _ => ?_)
    refine lv_iconst (v := 0) hx hb dX3_run_17 (by decide) ?_
    have e1 : (0 : Int32) = (m_run X (nI q) km se).1 := by first | (simp [m_run, mHd_w, mIn_w, mWs_w, mIs_w, mN_w, mK_w, mBo_w0, zu_zu, hcq, k_2, e_3]; done) | (simp [m_run, mHd_w, mIn_w, mWs_w, mIs_w, mN_w, mK_w, mBo_w0, zu_zu, hcq, k_2, e_3, zin]; done)
    have e2 : zu X 0 0 2 = (m_run X (nI q) km se).2 := by first | (simp [m_run, mHd_w, mIn_w, mWs_w, mIs_w, mN_w, mK_w, mBo_w0, zu_zu, hcq, k_2, e_3]; done) | (simp [m_run, mHd_w, mIn_w, mWs_w, mIs_w, mN_w, mK_w, mBo_w0, zu_zu, hcq, k_2, e_3, zin]; done)
    rw [e2] at hX
    exact ze_i hx hb hr hlocks hS dX3_run_18 (Nat.le_refl _) (Nat.le_refl _) () e1 hX
  · refine zm_topi (y := 0) e_3 ?_
    have hcq : (nI q).toNatClampNeg = q := nI_clamp (by omega)
    refine zx_put hx hb hown hts hK hX hS 0 (by decide) rfl q1021 rfl rfl rfl rfl dX3_run_7 (fun H locs hX hS => ?_)
    refine lv_aload_n hx hb dX3_run_10 rfl (lv_at hl 0 rfl) ?_
    refine zx_get hx hb hown hts hK hX 0 (by decide) q1021 rfl rfl dX3_run_11 ?_
    refine zm_topi (y := 0) (by simp [zu]) ?_
    refine lv_if_le (tgt := 19) hx hb dX3_run_14 (by decide) (fun _ => ?_) (fun c_6 => absurd (by decide) c_6)
    refine lv_aload_n hx hb dX3_run_19 rfl (lv_at hl 0 rfl) ?_
    refine lv_iload_n hx hb dX3_run_20 rfl (lv_at hl 2 rfl) ?_
    refine lv_iconst (v := 1) hx hb dX3_run_21 (by decide) ?_
    refine lv_sipush (v := 2000) hx hb dX3_run_22 (by decide) ?_
    refine zc_i (zr_S (As := [.int km, .int 1, .int 2000]) (rest := [.ref mo]) ⟨hx, hb, hml, hown, hts⟩ (ct_X3_in l g A (zMX g A mo ma (zu X 0 0 0)) km 1 2000) zn_X3_in (lw_S q1130 q1131 q48 q1132) (by decide) (by decide) hK (fun _ h => h) hS hX rfl hl.1 (Nat.le_of_ble_eq_true rfl) dX3_run_25 ⟨Nat.le_refl _, Nat.le_refl _⟩) hS (fun _ h => h) (fun r _ H locs r_7 hX _ _ hS => ?_)
    subst r_7
    refine zl_ifeq (tgt := 40) hx hb dX3_run_28 (by decide) (fun c_8 => ?_) (fun c_8 => ?_)
    · refine lv_iconst (v := 2) hx hb dX3_run_40 (by decide) ?_
      refine lv_goto (tgt := 66) hx hb dX3_run_41 (by decide) ?_
      refine zx_put hx hb hown hts hK hX hS 0 (by decide) rfl q1021 rfl rfl rfl rfl dX3_run_66 (fun H locs hX hS => ?_)
      rw [zu_zu] at hX
      refine lv_aload_n hx hb dX3_run_69 rfl (lv_at hl 0 rfl) ?_
      refine zx_get hx hb hown hts hK hX 0 (by decide) q1021 rfl rfl dX3_run_70 ?_
      refine zm_topi (y := 2) (by simp [zu]) ?_
      refine lv_if_le (tgt := 78) hx hb dX3_run_73 (by decide) (fun c_9 => absurd c_9 (by decide)) (fun _ => ?_)
      refine lv_iconst (v := 0) hx hb dX3_run_76 (by decide) ?_
      have e1 : (0 : Int32) = (m_run X (nI q) km se).1 := by first | (simp [m_run, mHd_w, mIn_w, mWs_w, mIs_w, mN_w, mK_w, mBo_w0, zu_zu, hcq, k_2, e_3, c_8]; done) | (simp [m_run, mHd_w, mIn_w, mWs_w, mIs_w, mN_w, mK_w, mBo_w0, zu_zu, hcq, k_2, e_3, c_8, zin]; done)
      have e2 : zu X 0 0 2 = (m_run X (nI q) km se).2 := by first | (simp [m_run, mHd_w, mIn_w, mWs_w, mIs_w, mN_w, mK_w, mBo_w0, zu_zu, hcq, k_2, e_3, c_8]; done) | (simp [m_run, mHd_w, mIn_w, mWs_w, mIs_w, mN_w, mK_w, mBo_w0, zu_zu, hcq, k_2, e_3, c_8, zin]; done)
      rw [e2] at hX
      exact ze_i hx hb hr hlocks hS dX3_run_77 (Nat.le_refl _) (Nat.le_refl _) () e1 hX
    · refine lv_iload_n hx hb dX3_run_31 rfl (lv_at hl 3 rfl) ?_
      refine lv_iconst (v := 0) hx hb dX3_run_32 (by decide) ?_
      refine lv_iconst (v := 3) hx hb dX3_run_33 (by decide) ?_
      refine zc_i (zr_S (As := [.int se, .int 0, .int 3]) (rest := [.ref mo]) ⟨hx, hb, hml, hown, hts⟩ (ct_X3_in l g A (zMX g A mo ma (zu X 0 0 0)) se 0 3) zn_X3_in (lw_S q1130 q1131 q48 q1132) (by decide) (by decide) hK (fun _ h => h) hS hX rfl hl.1 (Nat.le_of_ble_eq_true rfl) dX3_run_34 ⟨Nat.le_refl _, Nat.le_refl _⟩) hS (fun _ h => h) (fun r _ H locs r_10 hX _ _ hS => ?_)
      subst r_10
      refine zl_ifne (tgt := 44) hx hb dX3_run_37 (by decide) (fun c_11 => ?_) (fun c_11 => ?_)
      · refine lv_aload_n hx hb dX3_run_44 rfl (lv_at hl 0 rfl) ?_
        refine zx_get hx hb hown hts hK hX 11 (by decide) q1032 rfl rfl dX3_run_45 ?_
        refine lv_iload_n hx hb dX3_run_48 rfl (lv_at hl 1 rfl) ?_
        refine zx_ldz (i := q) hx hb hK hX 11 rfl rfl (n := 60) rfl (by omega) dX3_run_49 ?_
        refine zm_topi (y := X 11 q) (by simp [zu]) ?_
        refine lv_if_eq (tgt := 61) hx hb dX3_run_50 (by decide) (fun c_12 => ?_) (fun c_12 => ?_)
        · refine lv_iconst (v := 3) hx hb dX3_run_61 (by decide) ?_
          refine lv_goto (tgt := 66) hx hb dX3_run_62 (by decide) ?_
          refine zx_put hx hb hown hts hK hX hS 0 (by decide) rfl q1021 rfl rfl rfl rfl dX3_run_66 (fun H locs hX hS => ?_)
          rw [zu_zu] at hX
          refine lv_aload_n hx hb dX3_run_69 rfl (lv_at hl 0 rfl) ?_
          refine zx_get hx hb hown hts hK hX 0 (by decide) q1021 rfl rfl dX3_run_70 ?_
          refine zm_topi (y := 3) (by simp [zu]) ?_
          refine lv_if_le (tgt := 78) hx hb dX3_run_73 (by decide) (fun c_13 => absurd c_13 (by decide)) (fun _ => ?_)
          refine lv_iconst (v := 0) hx hb dX3_run_76 (by decide) ?_
          have e1 : (0 : Int32) = (m_run X (nI q) km se).1 := by first | (simp [m_run, mHd_w, mIn_w, mWs_w, mIs_w, mN_w, mK_w, mBo_w0, zu_zu, hcq, k_2, e_3, c_8, c_11, c_12]; done) | (simp [m_run, mHd_w, mIn_w, mWs_w, mIs_w, mN_w, mK_w, mBo_w0, zu_zu, hcq, k_2, e_3, c_8, c_11, c_12, zin]; done)
          have e2 : zu X 0 0 3 = (m_run X (nI q) km se).2 := by first | (simp [m_run, mHd_w, mIn_w, mWs_w, mIs_w, mN_w, mK_w, mBo_w0, zu_zu, hcq, k_2, e_3, c_8, c_11, c_12]; done) | (simp [m_run, mHd_w, mIn_w, mWs_w, mIs_w, mN_w, mK_w, mBo_w0, zu_zu, hcq, k_2, e_3, c_8, c_11, c_12, zin]; done)
          rw [e2] at hX
          exact ze_i hx hb hr hlocks hS dX3_run_77 (Nat.le_refl _) (Nat.le_refl _) () e1 hX
        · refine lv_aload_n hx hb dX3_run_53 rfl (lv_at hl 0 rfl) ?_
          refine lv_iload_n hx hb dX3_run_54 rfl (lv_at hl 1 rfl) ?_
          refine zc_i (zr_V (As := [.int (nI q)]) (rest := [.ref mo]) ⟨hx, hb, hml, hown, hts⟩ (ct_X3_isBound l g A mo ma (zu X 0 0 0) q (hI.w 0 0 0 (by decide) (by decide) (by decide)) (by have hz_ := show q < mN X from hp; simpa [mN_w, m_moves, m_ends, mN_goes, mN_hl, mN_rc, m_trues] using hz_) (by intro p; simpa [zu, m_moves, m_ends] using hz12 p)) zn_X3_isBound (lw_V q1149 q1151 qs17 q48 q1152) rfl (by decide) (by decide) hK (fun _ h => h) hS hX (zx_recv hK hX) rfl hl.1 (Nat.le_of_ble_eq_true rfl) dX3_run_55 ⟨Nat.le_refl _, Nat.le_refl _⟩) hS (fun _ h => h) (fun r _ H locs r_14 hX _ _ hS => ?_)
          subst r_14
          refine zm_topi (y := X 12 (mHd X q)) (by simp [mN_w, mIs_w, mKc_w, mHd_w, mIi_w, mIn_w, mK_w, mH_w, mM_w, mW_w, zu, mBo_w0, mMp_w, mWs_w]) ?_
          refine lv_if_eq (tgt := 65) hx hb dX3_run_58 (by decide) (fun c_15 => ?_) (fun c_15 => ?_)
          · refine lv_iconst (v := 0) hx hb dX3_run_65 (by decide) ?_
            refine zx_put hx hb hown hts hK hX hS 0 (by decide) rfl q1021 rfl rfl rfl rfl dX3_run_66 (fun H locs hX hS => ?_)
            rw [zu_zu] at hX
            refine lv_aload_n hx hb dX3_run_69 rfl (lv_at hl 0 rfl) ?_
            refine zx_get hx hb hown hts hK hX 0 (by decide) q1021 rfl rfl dX3_run_70 ?_
            refine zm_topi (y := 0) (by simp [zu]) ?_
            refine lv_if_le (tgt := 78) hx hb dX3_run_73 (by decide) (fun _ => ?_) (fun c_16 => absurd (by decide) c_16)
            refine lv_aload_n hx hb dX3_run_78 rfl (lv_at hl 0 rfl) ?_
            refine zx_get hx hb hown hts hK hX 11 (by decide) q1032 rfl rfl dX3_run_79 ?_
            refine lv_iload_n hx hb dX3_run_82 rfl (lv_at hl 1 rfl) ?_
            refine lv_iconst (v := 0) hx hb dX3_run_83 (by decide) ?_
            refine zx_stz (i := q) hx hb hK hX hS 11 rfl rfl (n := 60) rfl (by omega) (Or.inl rfl) dX3_run_84 (fun H locs hX hS => ?_)
            refine lv_iconst (v := (-1)) hx hb dX3_run_85 (by decide) ?_
            refine lv_istore (lv' := [(4, .int (-1)), (0, .ref mo), (1, .int (nI q)), (2, .int km), (3, .int se)]) hx hb dX3_run_86 hl (by decide) rfl (fun ls hl => ?_)
            refine lv_aload_n hx hb dX3_run_88 rfl (lv_at hl 1 rfl) ?_
            refine zx_get hx hb hown hts hK hX 1 (by decide) q1022 rfl rfl dX3_run_89 ?_
            refine zm_topi (y := X 1 0) (by simp [zu]) ?_
            refine zm_topi (y := nI (mN X)) (hI.1.1) ?_
            refine lv_iconst (v := 1) hx hb dX3_run_92 (by decide) ?_
            refine lv_isub hx hb dX3_run_93 ?_
            refine lv_istore (lv' := [(5, .int ((nI (mN X)) - 1)), (4, .int (-1)), (0, .ref mo), (1, .int (nI q)), (2, .int km), (3, .int se)]) hx hb dX3_run_94 hl (by decide) rfl (fun ls hl => ?_)
            have L_18 : ∀ (n_17 : Nat) (j : Nat) (Y : zX) (b : Int32), j + 1 < n_17 → (j ≤ mN X) → (mRn q km se j (Y, b) = mRn q km se (mN X) (zu (zu X 0 0 0) 11 q 0, -1)) → (MH Y) → (mN Y = mN X) → ∀ (H : Heap) (locs : List Loc) (ls : Array Slot), zMX g A mo ma Y H → va_S A s.heap H locs → lv_has ls 6 [(5, .int (nI j - 1)), (4, .int b), (0, .ref mo), (1, .int (nI q)), (2, .int km), (3, .int se)] → W p l e (zR 5 0 0) s m args below meth c H locs 0 0 (MQ below (va_Qi (fun rz_ (_ : Unit) => rz_ = (m_run X (nI q) km se).1) (fun (_ : Unit) t => zMX g A mo ma ((m_run X (nI q) km se).2) t.heap) A) args s 0 0 A) (F0 m 96 ls []) := by
              intro n_17
              induction n_17 with
              | zero => intro j Y b hm; exact absurd hm (Nat.not_lt_zero _)
              | succ n_17 ih =>
                intro j Y b hm hjn hr1 hYI hYn H locs ls hX hS hl
                have ih_19 := ih
                rcases j with _ | j
                · refine lv_iload hx hb dX3_run_96 (lv_at hl 0 rfl) ?_
                  refine zm_topi (y := (-1)) ((by decide)) ?_
                  refine lv_if_lt (tgt := 146) hx hb dX3_run_98 (by decide) (fun _ => ?_) (fun c_20 => absurd (by decide) c_20)
                  refine lv_iconst (v := 0) hx hb dX3_run_146 (by decide) ?_
                  refine lv_istore (lv' := [(5, .int 0), (4, .int b), (0, .ref mo), (1, .int (nI q)), (2, .int km), (3, .int se)]) hx hb dX3_run_147 hl (by decide) rfl (fun ls hl => ?_)
                  have L_22 : ∀ (n_21 : Nat) (i : Nat), mN X + 1 - i < n_21 → (i ≤ mN X) → (b = -1 → i = 0) → ∀ (H : Heap) (locs : List Loc) (ls : Array Slot), zMX g A mo ma (mHl Y q i) H → va_S A s.heap H locs → lv_has ls 6 [(5, .int (nI i)), (4, .int b), (0, .ref mo), (1, .int (nI q)), (2, .int km), (3, .int se)] → W p l e (zR 5 0 0) s m args below meth c H locs 0 0 (MQ below (va_Qi (fun rz_ (_ : Unit) => rz_ = (m_run X (nI q) km se).1) (fun (_ : Unit) t => zMX g A mo ma ((m_run X (nI q) km se).2) t.heap) A) args s 0 0 A) (F0 m 149 ls []) := by
                    intro n_21
                    induction n_21 with
                    | zero => intro i hm; exact absurd hm (Nat.not_lt_zero _)
                    | succ n_21 ih =>
                      intro i hm hi hb0 H locs ls hX hS hl
                      have ih_23 := ih
                      refine lv_iload hx hb dX3_run_149 (lv_at hl 0 rfl) ?_
                      refine lv_aload_n hx hb dX3_run_151 rfl (lv_at hl 2 rfl) ?_
                      refine zx_get hx hb hown hts hK hX 1 (by decide) q1022 rfl rfl dX3_run_152 ?_
                      refine zm_topi (y := nI (mN X)) ((hYI.hl q i).1.1.trans (by rw [mN_hl, hYn])) ?_
                      refine zl_ge (tgt := 202) (a := i) (b := mN X) hx hb (by first | decide | omega) (by first | decide | omega) dX3_run_155 (by decide) (fun c_24 => ?_) (fun c_24 => ?_)
                      · refine lv_iload hx hb dX3_run_202 (lv_at hl 1 rfl) ?_
                        have e1 : (b : Int32) = (m_run X (nI q) km se).1 := by have hS9 : mRn q km se (mN X) (zu (zu X 0 0 0) 11 q 0, -1) = (Y, b) := hr1.symm; have hin : i = mN X := (by omega); have hbn : ¬ b = -1 := (fun z => by have := hb0 z; omega); subst hin; simp [m_run, hS9, mHd_w, mKc_w, hcq, k_2, e_3, c_8, c_11, c_12, c_15, hbn]
                        have e2 : mHl Y q i = (m_run X (nI q) km se).2 := by have hS9 : mRn q km se (mN X) (zu (zu X 0 0 0) 11 q 0, -1) = (Y, b) := hr1.symm; have hin : i = mN X := (by omega); have hbn : ¬ b = -1 := (fun z => by have := hb0 z; omega); subst hin; simp [m_run, hS9, mHd_w, mKc_w, hcq, k_2, e_3, c_8, c_11, c_12, c_15, hbn]
                        rw [e2] at hX
                        exact ze_i hx hb hr hlocks hS dX3_run_204 (Nat.le_refl _) (Nat.le_refl _) () e1 hX
                      · refine lv_iload hx hb dX3_run_158 (lv_at hl 1 rfl) ?_
                        refine lv_iconst (v := (-1)) hx hb dX3_run_160 (by decide) ?_
                        refine lv_icmp_eq (tgt := 202) hx hb dX3_run_161 (by decide) (fun c_25 => ?_) (fun c_25 => ?_)
                        · refine lv_iload hx hb dX3_run_202 (lv_at hl 1 rfl) ?_
                          have e1 : (b : Int32) = (m_run X (nI q) km se).1 := by have hS9 : mRn q km se (mN X) (zu (zu X 0 0 0) 11 q 0, -1) = (Y, b) := hr1.symm; have hi0 := hb0 c_25; subst hi0; simp [m_run, hS9, mHd_w, mKc_w, hcq, k_2, e_3, c_8, c_11, c_12, c_15, c_25]; first | done | rfl
                          have e2 : mHl Y q i = (m_run X (nI q) km se).2 := by have hS9 : mRn q km se (mN X) (zu (zu X 0 0 0) 11 q 0, -1) = (Y, b) := hr1.symm; have hi0 := hb0 c_25; subst hi0; simp [m_run, hS9, mHd_w, mKc_w, hcq, k_2, e_3, c_8, c_11, c_12, c_15, c_25]; first | done | rfl
                          rw [e2] at hX
                          exact ze_i hx hb hr hlocks hS dX3_run_204 (Nat.le_refl _) (Nat.le_refl _) () e1 hX
                        · have hil : i < mN Y := by omega
                          refine lv_aload_n hx hb dX3_run_164 rfl (lv_at hl 2 rfl) ?_
                          refine zx_get hx hb hown hts hK hX 9 (by decide) q1030 rfl rfl dX3_run_165 ?_
                          refine lv_iload hx hb dX3_run_168 (lv_at hl 0 rfl) ?_
                          refine lv_aload_n hx hb dX3_run_170 rfl (lv_at hl 2 rfl) ?_
                          refine zx_get hx hb hown hts hK hX 9 (by decide) q1030 rfl rfl dX3_run_171 ?_
                          refine lv_iload hx hb dX3_run_174 (lv_at hl 0 rfl) ?_
                          refine zx_ldz (i := i) hx hb hK hX 9 rfl rfl (n := 60) rfl (by omega) dX3_run_176 ?_
                          refine zm_topi (y := Y 9 i) (mHl_9 _ _ _ _ (Nat.le_refl _)) ?_
                          refine lv_if_ne (tgt := 190) hx hb dX3_run_177 (by decide) (fun c_26 => ?_) (fun c_26 => ?_)
                          · refine lv_iconst (v := 1) hx hb dX3_run_190 (by decide) ?_
                            refine lv_goto (tgt := 195) hx hb dX3_run_191 (by decide) ?_
                            refine zx_stz (i := i) hx hb hK hX hS 9 rfl rfl (n := 60) rfl (by omega) (Or.inr rfl) dX3_run_195 (fun H locs hX hS => ?_)
                            have e9 : mHl Y q (i + 1) = zu (mHl Y q i) 9 i 1 := by simp [mHl, c_26]
                            rw [← e9] at hX
                            refine lv_iinc (v := nI (i + 1)) (lv' := [(5, .int (nI (i + 1))), (4, .int b), (0, .ref mo), (1, .int (nI q)), (2, .int km), (3, .int se)]) hx hb dX3_run_196 hl (k := 0) rfl (nI_1 i) (by decide) rfl (fun ls hl => ?_)
                            refine lv_goto (tgt := 149) hx hb dX3_run_199 (by decide) ?_
                            exact ih_23 (i + 1) (by omega) (by omega) (fun z => absurd z c_25) _ _ _ hX hS (lv_sub hl [0, 1, 2, 3, 4, 5] rfl)
                          · refine lv_aload_n hx hb dX3_run_180 rfl (lv_at hl 2 rfl) ?_
                            refine lv_iload hx hb dX3_run_181 (lv_at hl 0 rfl) ?_
                            refine lv_iload_n hx hb dX3_run_183 rfl (lv_at hl 3 rfl) ?_
                            refine zc_i (zr_V (As := [.int (nI i), .int (nI q)]) (rest := [.int (nI i), .ref (ma 9)]) ⟨hx, hb, hml, hown, hts⟩ (ct_X3_isIn l g A mo ma (mHl Y q i) i q (hYI.hl q i) (by have hz_ := show i < mN Y from hil; simpa [mN_w, m_moves, m_ends, mN_goes, mN_hl, mN_rc, m_trues] using hz_) (by omega)) zn_X3_isIn (lw_V q1189 q1191 qs24 q48 q1192) rfl (by decide) (by decide) hK (fun _ h => h) hS hX (zx_recv hK hX) rfl hl.1 (Nat.le_of_ble_eq_true rfl) dX3_run_184 ⟨Nat.le_refl _, Nat.le_refl _⟩) hS (fun _ h => h) (fun r _ H locs r_27 hX _ _ hS => ?_)
                            subst r_27
                            refine zm_topi (y := zb (mIi Y i q)) (by rw [mIi_cg (mHl_cg Y q (by decide) i)]) ?_
                            refine zl_ifeq (tgt := 194) hx hb dX3_run_187 (by decide) (fun c_28 => ?_) (fun c_28 => ?_)
                            · refine lv_iconst (v := 0) hx hb dX3_run_194 (by decide) ?_
                              refine zx_stz (i := i) hx hb hK hX hS 9 rfl rfl (n := 60) rfl (by omega) (Or.inl rfl) dX3_run_195 (fun H locs hX hS => ?_)
                              have e9 : mHl Y q (i + 1) = zu (mHl Y q i) 9 i 0 := by simp [mHl, c_26, c_28]
                              rw [← e9] at hX
                              refine lv_iinc (v := nI (i + 1)) (lv' := [(5, .int (nI (i + 1))), (4, .int b), (0, .ref mo), (1, .int (nI q)), (2, .int km), (3, .int se)]) hx hb dX3_run_196 hl (k := 0) rfl (nI_1 i) (by decide) rfl (fun ls hl => ?_)
                              refine lv_goto (tgt := 149) hx hb dX3_run_199 (by decide) ?_
                              exact ih_23 (i + 1) (by omega) (by omega) (fun z => absurd z c_25) _ _ _ hX hS (lv_sub hl [0, 1, 2, 3, 4, 5] rfl)
                            · refine lv_iconst (v := 1) hx hb dX3_run_190 (by decide) ?_
                              refine lv_goto (tgt := 195) hx hb dX3_run_191 (by decide) ?_
                              refine zx_stz (i := i) hx hb hK hX hS 9 rfl rfl (n := 60) rfl (by omega) (Or.inr rfl) dX3_run_195 (fun H locs hX hS => ?_)
                              have e9 : mHl Y q (i + 1) = zu (mHl Y q i) 9 i 1 := by simp [mHl, c_26, c_28]
                              rw [← e9] at hX
                              refine lv_iinc (v := nI (i + 1)) (lv' := [(5, .int (nI (i + 1))), (4, .int b), (0, .ref mo), (1, .int (nI q)), (2, .int km), (3, .int se)]) hx hb dX3_run_196 hl (k := 0) rfl (nI_1 i) (by decide) rfl (fun ls hl => ?_)
                              refine lv_goto (tgt := 149) hx hb dX3_run_199 (by decide) ?_
                              exact ih_23 (i + 1) (by omega) (by omega) (fun z => absurd z c_25) _ _ _ hX hS (lv_sub hl [0, 1, 2, 3, 4, 5] rfl)
                  exact L_22 ((mN X + 1 - 0) + 1) 0 (Nat.lt_succ_self _) (Nat.zero_le _) (fun _ => rfl) _ _ _ hX hS (lv_sub hl [0, 1, 2, 3, 4, 5] rfl)
                · have hjl : j < mN Y := by omega
                  refine lv_iload hx hb dX3_run_96 (lv_at hl 0 rfl) ?_
                  refine zm_topi (y := nI j) (nI_pred j) ?_
                  refine lv_if_lt (tgt := 146) hx hb dX3_run_98 (by decide) (fun c_0 => absurd c_0 (nI_pos (by omega))) (fun _ => ?_)
                  refine lv_aload_n hx hb dX3_run_101 rfl (lv_at hl 2 rfl) ?_
                  refine lv_iload hx hb dX3_run_102 (lv_at hl 0 rfl) ?_
                  refine zm_topi (y := nI j) (nI_pred j) ?_
                  refine lv_iload_n hx hb dX3_run_104 rfl (lv_at hl 3 rfl) ?_
                  refine zc_i (zr_V (As := [.int (nI j), .int (nI q)]) (rest := []) ⟨hx, hb, hml, hown, hts⟩ (ct_X3_isIn l g A mo ma Y j q hYI hjl (by omega)) zn_X3_isIn (lw_V q1189 q1191 qs24 q48 q1192) rfl (by decide) (by decide) hK (fun _ h => h) hS hX (zx_recv hK hX) rfl hl.1 (Nat.le_of_ble_eq_true rfl) dX3_run_105 ⟨Nat.le_refl _, Nat.le_refl _⟩) hS (fun _ h => h) (fun r _ H locs r_29 hX _ _ hS => ?_)
                  subst r_29
                  refine zl_ifeq (tgt := 140) hx hb dX3_run_108 (by decide) (fun c_30 => ?_) (fun c_30 => ?_)
                  · refine lv_iinc (v := nI j - 1) (lv' := [(5, .int (nI j - 1)), (4, .int b), (0, .ref mo), (1, .int (nI q)), (2, .int km), (3, .int se)]) hx hb dX3_run_140 hl (k := 0) rfl (zdec _) (by decide) rfl (fun ls hl => ?_)
                    refine lv_goto (tgt := 96) hx hb dX3_run_143 (by decide) ?_
                    exact ih_19 j Y b (by omega) (by omega) (by rw [← hr1]; show _ = mRn q km se j (mRn1 q km se j (Y, b)); rw [show mRn1 q km se j (Y, b) = (Y, b) from by simp [mRn1, c_30]]) hYI hYn _ _ _ hX hS (lv_sub hl [0, 1, 2, 3, 4, 5] rfl)
                  · refine lv_aload_n hx hb dX3_run_111 rfl (lv_at hl 2 rfl) ?_
                    refine lv_iload hx hb dX3_run_112 (lv_at hl 0 rfl) ?_
                    refine zm_topi (y := nI j) (nI_pred j) ?_
                    refine lv_iload_n hx hb dX3_run_114 rfl (lv_at hl 4 rfl) ?_
                    refine lv_iload_n hx hb dX3_run_115 rfl (lv_at hl 5 rfl) ?_
                    refine zc_v (zr_V (As := [.int (nI j), .int km, .int se]) (rest := []) ⟨hx, hb, hml, hown, hts⟩ (ct_X3_goes l g A mo ma Y j km se hYI hjl) zn_X3_goes (lw_V q1193 q1195 qs25 q48 q1196) rfl (by decide) (by decide) hK (fun _ h => h) hS hX (zx_recv hK hX) rfl hl.1 (Nat.le_of_ble_eq_true rfl) dX3_run_116 ⟨Nat.le_refl _, Nat.le_refl _⟩) hS (fun _ h => h) (fun _ H locs _ hX _ _ hS => ?_)
                    refine lv_aload_n hx hb dX3_run_119 rfl (lv_at hl 2 rfl) ?_
                    refine zx_get hx hb hown hts hK hX 18 (by decide) q1039 rfl rfl dX3_run_120 ?_
                    refine lv_iload hx hb dX3_run_123 (lv_at hl 0 rfl) ?_
                    refine zm_topi (y := nI j) (nI_pred j) ?_
                    refine zx_ld (i := j) hx hb hK hX 18 rfl rfl (n := 60) rfl (by omega) dX3_run_125 ?_
                    refine lv_bipush (v := 100) hx hb dX3_run_126 (by decide) ?_
                    refine lv_icmp_lt (tgt := 136) hx hb dX3_run_128 (by decide) (fun c_31 => ?_) (fun c_31 => ?_)
                    · refine lv_iload hx hb dX3_run_136 (lv_at hl 1 rfl) ?_
                      refine lv_istore (lv' := [(4, .int b), (5, .int (nI (j + 1) - 1)), (0, .ref mo), (1, .int (nI q)), (2, .int km), (3, .int se)]) hx hb dX3_run_138 hl (by decide) rfl (fun ls hl => ?_)
                      refine lv_iinc (v := nI j - 1) (lv' := [(5, .int (nI j - 1)), (4, .int b), (0, .ref mo), (1, .int (nI q)), (2, .int km), (3, .int se)]) hx hb dX3_run_140 hl (k := 1) rfl (zdec _) (by decide) rfl (fun ls hl => ?_)
                      refine lv_goto (tgt := 96) hx hb dX3_run_143 (by decide) ?_
                      exact ih_19 j (m_goes Y j km se) b (by omega) (by omega) (by rw [← hr1]; show _ = mRn q km se j (mRn1 q km se j (Y, b)); rw [show mRn1 q km se j (Y, b) = (m_goes Y j km se, b) from by simp [mRn1, c_30, c_31]]) (hYI.goes _ _ _) (by rw [mN_goes]; exact hYn) _ _ _ hX hS (lv_sub hl [0, 1, 2, 3, 4, 5] rfl)
                    · refine lv_iload hx hb dX3_run_131 (lv_at hl 0 rfl) ?_
                      refine zm_topi (y := nI j) (nI_pred j) ?_
                      refine lv_goto (tgt := 138) hx hb dX3_run_133 (by decide) ?_
                      refine lv_istore (lv' := [(4, .int (nI j)), (5, .int (nI (j + 1) - 1)), (0, .ref mo), (1, .int (nI q)), (2, .int km), (3, .int se)]) hx hb dX3_run_138 hl (by decide) rfl (fun ls hl => ?_)
                      refine lv_iinc (v := nI j - 1) (lv' := [(5, .int (nI j - 1)), (4, .int (nI j)), (0, .ref mo), (1, .int (nI q)), (2, .int km), (3, .int se)]) hx hb dX3_run_140 hl (k := 1) rfl (zdec _) (by decide) rfl (fun ls hl => ?_)
                      refine lv_goto (tgt := 96) hx hb dX3_run_143 (by decide) ?_
                      exact ih_19 j (m_goes Y j km se) (nI j) (by omega) (by omega) (by rw [← hr1]; show _ = mRn q km se j (mRn1 q km se j (Y, b)); rw [show mRn1 q km se j (Y, b) = (m_goes Y j km se, nI j) from by simp [mRn1, c_30, c_31]]) (hYI.goes _ _ _) (by rw [mN_goes]; exact hYn) _ _ _ hX hS (lv_sub hl [0, 1, 2, 3, 4, 5] rfl)
            exact L_18 (((mN X) + 1) + 1) (mN X) (zu (zu X 0 0 0) 11 q 0) (-1) (Nat.lt_succ_self _) (Nat.le_refl _) rfl ((hI.w 0 0 0 (by decide) (by decide) (by decide)).w 11 q 0 (by decide) (by decide) (by decide)) (by simp [mN_w]) _ _ _ hX hS (lv_sub hl [0, 1, 2, 3, 4, 5] rfl)
          · refine lv_iconst (v := 3) hx hb dX3_run_61 (by decide) ?_
            refine lv_goto (tgt := 66) hx hb dX3_run_62 (by decide) ?_
            refine zx_put hx hb hown hts hK hX hS 0 (by decide) rfl q1021 rfl rfl rfl rfl dX3_run_66 (fun H locs hX hS => ?_)
            rw [zu_zu] at hX
            refine lv_aload_n hx hb dX3_run_69 rfl (lv_at hl 0 rfl) ?_
            refine zx_get hx hb hown hts hK hX 0 (by decide) q1021 rfl rfl dX3_run_70 ?_
            refine zm_topi (y := 3) (by simp [zu]) ?_
            refine lv_if_le (tgt := 78) hx hb dX3_run_73 (by decide) (fun c_32 => absurd c_32 (by decide)) (fun _ => ?_)
            refine lv_iconst (v := 0) hx hb dX3_run_76 (by decide) ?_
            have e1 : (0 : Int32) = (m_run X (nI q) km se).1 := by first | (simp [m_run, mHd_w, mIn_w, mWs_w, mIs_w, mN_w, mK_w, mBo_w0, zu_zu, hcq, k_2, e_3, c_8, c_11, c_12, c_15]; done) | (simp [m_run, mHd_w, mIn_w, mWs_w, mIs_w, mN_w, mK_w, mBo_w0, zu_zu, hcq, k_2, e_3, c_8, c_11, c_12, c_15, zin]; done)
            have e2 : zu X 0 0 3 = (m_run X (nI q) km se).2 := by first | (simp [m_run, mHd_w, mIn_w, mWs_w, mIs_w, mN_w, mK_w, mBo_w0, zu_zu, hcq, k_2, e_3, c_8, c_11, c_12, c_15]; done) | (simp [m_run, mHd_w, mIn_w, mWs_w, mIs_w, mN_w, mK_w, mBo_w0, zu_zu, hcq, k_2, e_3, c_8, c_11, c_12, c_15, zin]; done)
            rw [e2] at hX
            exact ze_i hx hb hr hlocks hS dX3_run_77 (Nat.le_refl _) (Nat.le_refl _) () e1 hX
      · refine lv_iconst (v := 2) hx hb dX3_run_40 (by decide) ?_
        refine lv_goto (tgt := 66) hx hb dX3_run_41 (by decide) ?_
        refine zx_put hx hb hown hts hK hX hS 0 (by decide) rfl q1021 rfl rfl rfl rfl dX3_run_66 (fun H locs hX hS => ?_)
        rw [zu_zu] at hX
        refine lv_aload_n hx hb dX3_run_69 rfl (lv_at hl 0 rfl) ?_
        refine zx_get hx hb hown hts hK hX 0 (by decide) q1021 rfl rfl dX3_run_70 ?_
        refine zm_topi (y := 2) (by simp [zu]) ?_
        refine lv_if_le (tgt := 78) hx hb dX3_run_73 (by decide) (fun c_33 => absurd c_33 (by decide)) (fun _ => ?_)
        refine lv_iconst (v := 0) hx hb dX3_run_76 (by decide) ?_
        have e1 : (0 : Int32) = (m_run X (nI q) km se).1 := by first | (simp [m_run, mHd_w, mIn_w, mWs_w, mIs_w, mN_w, mK_w, mBo_w0, zu_zu, hcq, k_2, e_3, c_8, c_11]; done) | (simp [m_run, mHd_w, mIn_w, mWs_w, mIs_w, mN_w, mK_w, mBo_w0, zu_zu, hcq, k_2, e_3, c_8, c_11, zin]; done)
        have e2 : zu X 0 0 2 = (m_run X (nI q) km se).2 := by first | (simp [m_run, mHd_w, mIn_w, mWs_w, mIs_w, mN_w, mK_w, mBo_w0, zu_zu, hcq, k_2, e_3, c_8, c_11]; done) | (simp [m_run, mHd_w, mIn_w, mWs_w, mIs_w, mN_w, mK_w, mBo_w0, zu_zu, hcq, k_2, e_3, c_8, c_11, zin]; done)
        rw [e2] at hX
        exact ze_i hx hb hr hlocks hS dX3_run_77 (Nat.le_refl _) (Nat.le_refl _) () e1 hX
theorem zn_X3_comes : zN yX3_comes 2 := by decide +kernel
set_option maxHeartbeats 4000000 in
theorem ct_X3_comes (l : Launch) (g : zG) (A : Nat → Prop) (mo : Nat) (ma : Nat → Nat) (X : zX) (x : Int32) (tm : Int32) (hI : MH X) (hz12 : ∀ p, X 12 p = 0 ∨ X 12 p = 1) (hW : X 26 0 = nI (mW X) ∧ mW X ≤ 8) (hQ : MQw X) : Met l yX3_comes (ws_ yX3_comes cX3_comes 5 (some .int)) (zR 4 0 0) (zP [.ref mo, .int x, .int tm] g A (zMX g A mo ma X)) (va_Qi (fun rz_ (_ : Unit) => rz_ = (m_comes X x tm).1) (fun (_ : Unit) t => zMX g A mo ma ((m_comes X x tm).2) t.heap) A) 0 0 A := by
  refine zb_met (by decide) (Nat.le_of_ble_eq_true rfl) ?_
  intro p e s m args below meth c ls hx hb hr hml hown hts hlocks hnm hK hX ha hl
  have hown : s.vm.findClass RX3 = some m.cls := hown
  have hS : va_S A s.heap s.heap [] := va_S.rf
  have hl : lv_has ls 5 [(0, .ref mo), (1, .int x), (2, .int tm)] := hl
  have hn60 := hI.1.2
  refine lv_aload_n hx hb dX3_comes_0 rfl (lv_at hl 0 rfl) ?_
  refine lv_aload_n hx hb dX3_comes_1 rfl (lv_at hl 0 rfl) ?_
  refine lv_iload_n hx hb dX3_comes_2 rfl (lv_at hl 1 rfl) ?_
  refine lv_iconst (v := 0) hx hb dX3_comes_3 (by decide) ?_
  refine zc_i (zr_V (As := [.int x, .int 0]) (rest := [.ref mo]) ⟨hx, hb, hml, hown, hts⟩ (ct_X3_kindCode l g A mo ma X x 0 hI) zn_X3_kindCode (lw_V q1185 q1187 qs23 q48 q1188) rfl (by decide) (by decide) hK (fun _ h => h) hS hX (zx_recv hK hX) rfl hl.1 (Nat.le_of_ble_eq_true rfl) dX3_comes_4 ⟨Nat.le_refl _, Nat.le_refl _⟩) hS (fun _ h => h) (fun r _ H locs r_1 hX _ _ hS => ?_)
  subst r_1
  rcases mKc_c hI x 0 with ⟨k_2, e_3⟩ | ⟨p1, hp, rfl, k_2, e_3⟩ | ⟨p1, hp, rfl, k_2, e_3⟩
  · refine zm_topi (y := 1) e_3 ?_
    refine zx_put hx hb hown hts hK hX hS 0 (by decide) rfl q1021 rfl rfl rfl rfl dX3_comes_7 (fun H locs hX hS => ?_)
    refine lv_aload_n hx hb dX3_comes_10 rfl (lv_at hl 0 rfl) ?_
    refine lv_aload_n hx hb dX3_comes_11 rfl (lv_at hl 0 rfl) ?_
    refine zx_get hx hb hown hts hK hX 0 (by decide) q1021 rfl rfl dX3_comes_12 ?_
    refine zm_topi (y := 1) (by simp [zu]) ?_
    refine lv_if_ne (tgt := 32) hx hb dX3_comes_15 (by decide) (fun _ => ?_) (fun c_4 => absurd c_4 (by decide))
    refine lv_aload_n hx hb dX3_comes_32 rfl (lv_at hl 0 rfl) ?_
    refine zx_get hx hb hown hts hK hX 0 (by decide) q1021 rfl rfl dX3_comes_33 ?_
    refine zm_topi (y := 1) (by simp [zu]) ?_
    refine zx_put hx hb hown hts hK hX hS 0 (by decide) rfl q1021 rfl rfl rfl rfl dX3_comes_36 (fun H locs hX hS => ?_)
    rw [zu_zu] at hX
    refine lv_aload_n hx hb dX3_comes_39 rfl (lv_at hl 0 rfl) ?_
    refine zx_get hx hb hown hts hK hX 0 (by decide) q1021 rfl rfl dX3_comes_40 ?_
    refine zm_topi (y := 1) (by simp [zu]) ?_
    refine lv_if_le (tgt := 48) hx hb dX3_comes_43 (by decide) (fun c_5 => absurd c_5 (by decide)) (fun _ => ?_)
    refine lv_iconst (v := 0) hx hb dX3_comes_46 (by decide) ?_
    have e1 : (0 : Int32) = (m_comes X x tm).1 := by first | (simp [m_comes, mHd_w, mIn_w, mWs_w, mIs_w, mN_w, mK_w, mBo_w0, zu_zu, k_2, e_3]; done) | (simp [m_comes, mHd_w, mIn_w, mWs_w, mIs_w, mN_w, mK_w, mBo_w0, zu_zu, k_2, e_3, zin]; done)
    have e2 : zu X 0 0 1 = (m_comes X x tm).2 := by first | (simp [m_comes, mHd_w, mIn_w, mWs_w, mIs_w, mN_w, mK_w, mBo_w0, zu_zu, k_2, e_3]; done) | (simp [m_comes, mHd_w, mIn_w, mWs_w, mIs_w, mN_w, mK_w, mBo_w0, zu_zu, k_2, e_3, zin]; done)
    rw [e2] at hX
    exact ze_i hx hb hr hlocks hS dX3_comes_47 (Nat.le_refl _) (Nat.le_refl _) () e1 hX
  · refine zm_topi (y := 2) e_3 ?_
    have hcp1 : (nI p1).toNatClampNeg = p1 := nI_clamp (by omega)
    refine zx_put hx hb hown hts hK hX hS 0 (by decide) rfl q1021 rfl rfl rfl rfl dX3_comes_7 (fun H locs hX hS => ?_)
    refine lv_aload_n hx hb dX3_comes_10 rfl (lv_at hl 0 rfl) ?_
    refine lv_aload_n hx hb dX3_comes_11 rfl (lv_at hl 0 rfl) ?_
    refine zx_get hx hb hown hts hK hX 0 (by decide) q1021 rfl rfl dX3_comes_12 ?_
    refine zm_topi (y := 2) (by simp [zu]) ?_
    refine lv_if_ne (tgt := 32) hx hb dX3_comes_15 (by decide) (fun _ => ?_) (fun c_6 => absurd c_6 (by decide))
    refine lv_aload_n hx hb dX3_comes_32 rfl (lv_at hl 0 rfl) ?_
    refine zx_get hx hb hown hts hK hX 0 (by decide) q1021 rfl rfl dX3_comes_33 ?_
    refine zm_topi (y := 2) (by simp [zu]) ?_
    refine zx_put hx hb hown hts hK hX hS 0 (by decide) rfl q1021 rfl rfl rfl rfl dX3_comes_36 (fun H locs hX hS => ?_)
    rw [zu_zu] at hX
    refine lv_aload_n hx hb dX3_comes_39 rfl (lv_at hl 0 rfl) ?_
    refine zx_get hx hb hown hts hK hX 0 (by decide) q1021 rfl rfl dX3_comes_40 ?_
    refine zm_topi (y := 2) (by simp [zu]) ?_
    refine lv_if_le (tgt := 48) hx hb dX3_comes_43 (by decide) (fun c_7 => absurd c_7 (by decide)) (fun _ => ?_)
    refine lv_iconst (v := 0) hx hb dX3_comes_46 (by decide) ?_
    have e1 : (0 : Int32) = (m_comes X (nI p1) tm).1 := by first | (simp [m_comes, mHd_w, mIn_w, mWs_w, mIs_w, mN_w, mK_w, mBo_w0, zu_zu, hcp1, k_2, e_3]; done) | (simp [m_comes, mHd_w, mIn_w, mWs_w, mIs_w, mN_w, mK_w, mBo_w0, zu_zu, hcp1, k_2, e_3, zin]; done)
    have e2 : zu X 0 0 2 = (m_comes X (nI p1) tm).2 := by first | (simp [m_comes, mHd_w, mIn_w, mWs_w, mIs_w, mN_w, mK_w, mBo_w0, zu_zu, hcp1, k_2, e_3]; done) | (simp [m_comes, mHd_w, mIn_w, mWs_w, mIs_w, mN_w, mK_w, mBo_w0, zu_zu, hcp1, k_2, e_3, zin]; done)
    rw [e2] at hX
    exact ze_i hx hb hr hlocks hS dX3_comes_47 (Nat.le_refl _) (Nat.le_refl _) () e1 hX
  · refine zm_topi (y := 0) e_3 ?_
    have hcp1 : (nI p1).toNatClampNeg = p1 := nI_clamp (by omega)
    refine zx_put hx hb hown hts hK hX hS 0 (by decide) rfl q1021 rfl rfl rfl rfl dX3_comes_7 (fun H locs hX hS => ?_)
    refine lv_aload_n hx hb dX3_comes_10 rfl (lv_at hl 0 rfl) ?_
    refine lv_aload_n hx hb dX3_comes_11 rfl (lv_at hl 0 rfl) ?_
    refine zx_get hx hb hown hts hK hX 0 (by decide) q1021 rfl rfl dX3_comes_12 ?_
    refine zm_topi (y := 0) (by simp [zu]) ?_
    refine lv_if_ne (tgt := 32) hx hb dX3_comes_15 (by decide) (fun c_8 => absurd (by decide) c_8) (fun _ => ?_)
    refine lv_iload_n hx hb dX3_comes_18 rfl (lv_at hl 2 rfl) ?_
    refine lv_iconst (v := 0) hx hb dX3_comes_19 (by decide) ?_
    refine lv_bipush (v := 99) hx hb dX3_comes_20 (by decide) ?_
    refine zc_i (zr_S (As := [.int tm, .int 0, .int 99]) (rest := [.ref mo]) ⟨hx, hb, hml, hown, hts⟩ (ct_X3_in l g A (zMX g A mo ma (zu X 0 0 0)) tm 0 99) zn_X3_in (lw_S q1130 q1131 q48 q1132) (by decide) (by decide) hK (fun _ h => h) hS hX rfl hl.1 (Nat.le_of_ble_eq_true rfl) dX3_comes_22 ⟨Nat.le_refl _, Nat.le_refl _⟩) hS (fun _ h => h) (fun r _ H locs r_9 hX _ _ hS => ?_)
    subst r_9
    refine zl_ifne (tgt := 32) hx hb dX3_comes_25 (by decide) (fun c_10 => ?_) (fun c_10 => ?_)
    · refine lv_aload_n hx hb dX3_comes_32 rfl (lv_at hl 0 rfl) ?_
      refine zx_get hx hb hown hts hK hX 0 (by decide) q1021 rfl rfl dX3_comes_33 ?_
      refine zm_topi (y := 0) (by simp [zu]) ?_
      refine zx_put hx hb hown hts hK hX hS 0 (by decide) rfl q1021 rfl rfl rfl rfl dX3_comes_36 (fun H locs hX hS => ?_)
      rw [zu_zu] at hX
      refine lv_aload_n hx hb dX3_comes_39 rfl (lv_at hl 0 rfl) ?_
      refine zx_get hx hb hown hts hK hX 0 (by decide) q1021 rfl rfl dX3_comes_40 ?_
      refine zm_topi (y := 0) (by simp [zu]) ?_
      refine lv_if_le (tgt := 48) hx hb dX3_comes_43 (by decide) (fun _ => ?_) (fun c_11 => absurd (by decide) c_11)
      refine lv_aload_n hx hb dX3_comes_48 rfl (lv_at hl 0 rfl) ?_
      refine zx_get hx hb hown hts hK hX 26 (by decide) q1047 rfl rfl dX3_comes_49 ?_
      refine zm_topi (y := X 26 0) (by simp [zu]) ?_
      refine zm_topi (y := nI (mW X)) (hW.1) ?_
      refine lv_bipush (v := 8) hx hb dX3_comes_52 (by decide) ?_
      refine zl_ge (tgt := 89) (a := mW X) (b := 8) hx hb (by first | decide | omega) (by first | decide | omega) dX3_comes_54 (by decide) (fun c_12 => ?_) (fun c_12 => ?_)
      · refine lv_iconst (v := 0) hx hb dX3_comes_89 (by decide) ?_
        refine lv_istore_n (lv' := [(3, .int 0), (0, .ref mo), (1, .int (nI p1)), (2, .int tm)]) hx hb dX3_comes_90 rfl hl (by decide) rfl (fun ls hl => ?_)
        refine lv_iconst (v := 0) hx hb dX3_comes_91 (by decide) ?_
        refine lv_istore (lv' := [(4, .int 0), (3, .int 0), (0, .ref mo), (1, .int (nI p1)), (2, .int tm)]) hx hb dX3_comes_92 hl (by decide) rfl (fun ls hl => ?_)
        have L_14 : ∀ (n_13 : Nat) (j : Nat), mW X + 1 - j < n_13 → (j ≤ mW X) → ∀ (H : Heap) (locs : List Loc) (ls : Array Slot), zMX g A mo ma (zu X 0 0 0) H → va_S A s.heap H locs → lv_has ls 5 [(4, .int (nI j)), (3, .int (zb (false && !zany (fun k => decide (X 28 (mWt X k) = tm)) j))), (0, .ref mo), (1, .int (nI p1)), (2, .int tm)] → W p l e (zR 4 0 0) s m args below meth c H locs 0 0 (MQ below (va_Qi (fun rz_ (_ : Unit) => rz_ = (m_comes X (nI p1) tm).1) (fun (_ : Unit) t => zMX g A mo ma ((m_comes X (nI p1) tm).2) t.heap) A) args s 0 0 A) (F0 m 94 ls []) := by
          intro n_13
          induction n_13 with
          | zero => intro j hm; exact absurd hm (Nat.not_lt_zero _)
          | succ n_13 ih =>
            intro j hm hj H locs ls hX hS hl
            have ih_15 := ih
            refine lv_iload hx hb dX3_comes_94 (lv_at hl 0 rfl) ?_
            refine lv_aload_n hx hb dX3_comes_96 rfl (lv_at hl 2 rfl) ?_
            refine zx_get hx hb hown hts hK hX 26 (by decide) q1047 rfl rfl dX3_comes_97 ?_
            refine zm_topi (y := X 26 0) (by simp [zu]) ?_
            refine zm_topi (y := nI (mW X)) (hW.1) ?_
            refine zl_ge (tgt := 135) (a := j) (b := mW X) hx hb (by first | decide | omega) (by first | decide | omega) dX3_comes_100 (by decide) (fun c_16 => ?_) (fun c_16 => ?_)
            · refine lv_aload_n hx hb dX3_comes_135 rfl (lv_at hl 2 rfl) ?_
              refine lv_iload_n hx hb dX3_comes_136 rfl (lv_at hl 1 rfl) ?_
              refine zl_ifeq (tgt := 144) hx hb dX3_comes_137 (by decide) (fun _ => ?_) (fun c_17 => absurd c_17 Bool.false_ne_true)
              refine lv_iconst (v := 3) hx hb dX3_comes_144 (by decide) ?_
              refine zx_put hx hb hown hts hK hX hS 0 (by decide) rfl q1021 rfl rfl rfl rfl dX3_comes_145 (fun H locs hX hS => ?_)
              rw [zu_zu] at hX
              refine lv_aload_n hx hb dX3_comes_148 rfl (lv_at hl 2 rfl) ?_
              refine zx_get hx hb hown hts hK hX 0 (by decide) q1021 rfl rfl dX3_comes_149 ?_
              refine zm_topi (y := 3) (by simp [zu]) ?_
              refine lv_if_le (tgt := 157) hx hb dX3_comes_152 (by decide) (fun c_18 => absurd c_18 (by decide)) (fun _ => ?_)
              refine lv_iconst (v := 0) hx hb dX3_comes_155 (by decide) ?_
              have e1 : (0 : Int32) = (m_comes X (nI p1) tm).1 := by have hjw : j = mW X := (by omega); subst hjw; have hcm : mCm X p1 tm = false := (by simp [mCm, k_2, e_3, c_10, Nat.not_lt.mpr c_12]); simp [m_comes, hcm, hcp1, k_2, e_3, c_10]
              have e2 : zu X 0 0 3 = (m_comes X (nI p1) tm).2 := by have hjw : j = mW X := (by omega); subst hjw; have hcm : mCm X p1 tm = false := (by simp [mCm, k_2, e_3, c_10, Nat.not_lt.mpr c_12]); simp [m_comes, hcm, hcp1, k_2, e_3, c_10]
              rw [e2] at hX
              exact ze_i hx hb hr hlocks hS dX3_comes_156 (Nat.le_refl _) (Nat.le_refl _) () e1 hX
            · refine lv_iload_n hx hb dX3_comes_103 rfl (lv_at hl 1 rfl) ?_
              refine zl_ifeq (tgt := 127) hx hb dX3_comes_104 (by decide) (fun _ => ?_) (fun c_19 => absurd c_19 Bool.false_ne_true)
              refine lv_iconst (v := 0) hx hb dX3_comes_127 (by decide) ?_
              refine zm_topi (y := zb (false && !zany (fun k => decide (X 28 (mWt X k) = tm)) (j + 1))) (by simp [zany, zb]) ?_
              refine lv_istore_n (lv' := [(3, .int (zb (false && !zany (fun k => decide (X 28 (mWt X k) = tm)) (j + 1)))), (4, .int (nI j)), (0, .ref mo), (1, .int (nI p1)), (2, .int tm)]) hx hb dX3_comes_128 rfl hl (by decide) rfl (fun ls hl => ?_)
              refine lv_iinc (v := nI (j + 1)) (lv' := [(4, .int (nI (j + 1))), (3, .int (zb (false && !zany (fun k => decide (X 28 (mWt X k) = tm)) (j + 1)))), (0, .ref mo), (1, .int (nI p1)), (2, .int tm)]) hx hb dX3_comes_129 hl (k := 1) rfl (nI_1 j) (by decide) rfl (fun ls hl => ?_)
              refine lv_goto (tgt := 94) hx hb dX3_comes_132 (by decide) ?_
              exact ih_15 (j + 1) (by omega) (by omega) _ _ _ hX hS (lv_sub hl [0, 1, 2, 3, 4] rfl)
        exact L_14 ((mW X + 1 - 0) + 1) 0 (Nat.lt_succ_self _) (by omega) _ _ _ hX hS (lv_sub hl [0, 1, 2, 3, 4] rfl)
      · refine lv_aload_n hx hb dX3_comes_57 rfl (lv_at hl 0 rfl) ?_
        refine lv_iload_n hx hb dX3_comes_58 rfl (lv_at hl 1 rfl) ?_
        refine zc_i (zr_V (As := [.int (nI p1)]) (rest := []) ⟨hx, hb, hml, hown, hts⟩ (ct_X3_waits l g A mo ma (zu X 0 0 0) (nI p1) (by simpa [mW_w, zu, m_moves, m_ends] using hW)) zn_X3_waits (lw_V q1177 q1179 qs22 q48 q1180) rfl (by decide) (by decide) hK (fun _ h => h) hS hX (zx_recv hK hX) rfl hl.1 (Nat.le_of_ble_eq_true rfl) dX3_comes_59 ⟨Nat.le_refl _, Nat.le_refl _⟩) hS (fun _ h => h) (fun r _ H locs r_20 hX _ _ hS => ?_)
        subst r_20
        refine zm_topi (y := zb (mWs X (nI p1))) (by simp [mN_w, mIs_w, mKc_w, mHd_w, mIi_w, mIn_w, mK_w, mH_w, mM_w, mW_w, zu, mBo_w0, mMp_w, mWs_w]) ?_
        refine zl_ifne (tgt := 89) hx hb dX3_comes_62 (by decide) (fun c_21 => ?_) (fun c_21 => ?_)
        · refine lv_iconst (v := 0) hx hb dX3_comes_89 (by decide) ?_
          refine lv_istore_n (lv' := [(3, .int 0), (0, .ref mo), (1, .int (nI p1)), (2, .int tm)]) hx hb dX3_comes_90 rfl hl (by decide) rfl (fun ls hl => ?_)
          refine lv_iconst (v := 0) hx hb dX3_comes_91 (by decide) ?_
          refine lv_istore (lv' := [(4, .int 0), (3, .int 0), (0, .ref mo), (1, .int (nI p1)), (2, .int tm)]) hx hb dX3_comes_92 hl (by decide) rfl (fun ls hl => ?_)
          have L_23 : ∀ (n_22 : Nat) (j : Nat), mW X + 1 - j < n_22 → (j ≤ mW X) → ∀ (H : Heap) (locs : List Loc) (ls : Array Slot), zMX g A mo ma (zu X 0 0 0) H → va_S A s.heap H locs → lv_has ls 5 [(4, .int (nI j)), (3, .int (zb (false && !zany (fun k => decide (X 28 (mWt X k) = tm)) j))), (0, .ref mo), (1, .int (nI p1)), (2, .int tm)] → W p l e (zR 4 0 0) s m args below meth c H locs 0 0 (MQ below (va_Qi (fun rz_ (_ : Unit) => rz_ = (m_comes X (nI p1) tm).1) (fun (_ : Unit) t => zMX g A mo ma ((m_comes X (nI p1) tm).2) t.heap) A) args s 0 0 A) (F0 m 94 ls []) := by
            intro n_22
            induction n_22 with
            | zero => intro j hm; exact absurd hm (Nat.not_lt_zero _)
            | succ n_22 ih =>
              intro j hm hj H locs ls hX hS hl
              have ih_24 := ih
              refine lv_iload hx hb dX3_comes_94 (lv_at hl 0 rfl) ?_
              refine lv_aload_n hx hb dX3_comes_96 rfl (lv_at hl 2 rfl) ?_
              refine zx_get hx hb hown hts hK hX 26 (by decide) q1047 rfl rfl dX3_comes_97 ?_
              refine zm_topi (y := X 26 0) (by simp [zu]) ?_
              refine zm_topi (y := nI (mW X)) (hW.1) ?_
              refine zl_ge (tgt := 135) (a := j) (b := mW X) hx hb (by first | decide | omega) (by first | decide | omega) dX3_comes_100 (by decide) (fun c_25 => ?_) (fun c_25 => ?_)
              · refine lv_aload_n hx hb dX3_comes_135 rfl (lv_at hl 2 rfl) ?_
                refine lv_iload_n hx hb dX3_comes_136 rfl (lv_at hl 1 rfl) ?_
                refine zl_ifeq (tgt := 144) hx hb dX3_comes_137 (by decide) (fun _ => ?_) (fun c_26 => absurd c_26 Bool.false_ne_true)
                refine lv_iconst (v := 3) hx hb dX3_comes_144 (by decide) ?_
                refine zx_put hx hb hown hts hK hX hS 0 (by decide) rfl q1021 rfl rfl rfl rfl dX3_comes_145 (fun H locs hX hS => ?_)
                rw [zu_zu] at hX
                refine lv_aload_n hx hb dX3_comes_148 rfl (lv_at hl 2 rfl) ?_
                refine zx_get hx hb hown hts hK hX 0 (by decide) q1021 rfl rfl dX3_comes_149 ?_
                refine zm_topi (y := 3) (by simp [zu]) ?_
                refine lv_if_le (tgt := 157) hx hb dX3_comes_152 (by decide) (fun c_27 => absurd c_27 (by decide)) (fun _ => ?_)
                refine lv_iconst (v := 0) hx hb dX3_comes_155 (by decide) ?_
                have e1 : (0 : Int32) = (m_comes X (nI p1) tm).1 := by have hjw : j = mW X := (by omega); subst hjw; have hcm : mCm X p1 tm = false := (by simp [mCm, k_2, e_3, c_10, c_12, c_21]); simp [m_comes, hcm, hcp1, k_2, e_3, c_10]
                have e2 : zu X 0 0 3 = (m_comes X (nI p1) tm).2 := by have hjw : j = mW X := (by omega); subst hjw; have hcm : mCm X p1 tm = false := (by simp [mCm, k_2, e_3, c_10, c_12, c_21]); simp [m_comes, hcm, hcp1, k_2, e_3, c_10]
                rw [e2] at hX
                exact ze_i hx hb hr hlocks hS dX3_comes_156 (Nat.le_refl _) (Nat.le_refl _) () e1 hX
              · refine lv_iload_n hx hb dX3_comes_103 rfl (lv_at hl 1 rfl) ?_
                refine zl_ifeq (tgt := 127) hx hb dX3_comes_104 (by decide) (fun _ => ?_) (fun c_28 => absurd c_28 Bool.false_ne_true)
                refine lv_iconst (v := 0) hx hb dX3_comes_127 (by decide) ?_
                refine zm_topi (y := zb (false && !zany (fun k => decide (X 28 (mWt X k) = tm)) (j + 1))) (by simp [zany, zb]) ?_
                refine lv_istore_n (lv' := [(3, .int (zb (false && !zany (fun k => decide (X 28 (mWt X k) = tm)) (j + 1)))), (4, .int (nI j)), (0, .ref mo), (1, .int (nI p1)), (2, .int tm)]) hx hb dX3_comes_128 rfl hl (by decide) rfl (fun ls hl => ?_)
                refine lv_iinc (v := nI (j + 1)) (lv' := [(4, .int (nI (j + 1))), (3, .int (zb (false && !zany (fun k => decide (X 28 (mWt X k) = tm)) (j + 1)))), (0, .ref mo), (1, .int (nI p1)), (2, .int tm)]) hx hb dX3_comes_129 hl (k := 1) rfl (nI_1 j) (by decide) rfl (fun ls hl => ?_)
                refine lv_goto (tgt := 94) hx hb dX3_comes_132 (by decide) ?_
                exact ih_24 (j + 1) (by omega) (by omega) _ _ _ hX hS (lv_sub hl [0, 1, 2, 3, 4] rfl)
          exact L_23 ((mW X + 1 - 0) + 1) 0 (Nat.lt_succ_self _) (by omega) _ _ _ hX hS (lv_sub hl [0, 1, 2, 3, 4] rfl)
        · refine lv_aload_n hx hb dX3_comes_65 rfl (lv_at hl 0 rfl) ?_
          refine zx_get hx hb hown hts hK hX 12 (by decide) q1033 rfl rfl dX3_comes_66 ?_
          refine lv_iload_n hx hb dX3_comes_69 rfl (lv_at hl 1 rfl) ?_
          refine zx_ldz (i := p1) hx hb hK hX 12 rfl rfl (n := 60) rfl (by omega) dX3_comes_70 ?_
          refine zm_topi (y := X 12 p1) (by simp [zu]) ?_
          refine lv_if_ne (tgt := 89) hx hb dX3_comes_71 (by decide) (fun c_29 => ?_) (fun c_29 => ?_)
          · refine lv_iconst (v := 0) hx hb dX3_comes_89 (by decide) ?_
            refine lv_istore_n (lv' := [(3, .int 0), (0, .ref mo), (1, .int (nI p1)), (2, .int tm)]) hx hb dX3_comes_90 rfl hl (by decide) rfl (fun ls hl => ?_)
            refine lv_iconst (v := 0) hx hb dX3_comes_91 (by decide) ?_
            refine lv_istore (lv' := [(4, .int 0), (3, .int 0), (0, .ref mo), (1, .int (nI p1)), (2, .int tm)]) hx hb dX3_comes_92 hl (by decide) rfl (fun ls hl => ?_)
            have L_31 : ∀ (n_30 : Nat) (j : Nat), mW X + 1 - j < n_30 → (j ≤ mW X) → ∀ (H : Heap) (locs : List Loc) (ls : Array Slot), zMX g A mo ma (zu X 0 0 0) H → va_S A s.heap H locs → lv_has ls 5 [(4, .int (nI j)), (3, .int (zb (false && !zany (fun k => decide (X 28 (mWt X k) = tm)) j))), (0, .ref mo), (1, .int (nI p1)), (2, .int tm)] → W p l e (zR 4 0 0) s m args below meth c H locs 0 0 (MQ below (va_Qi (fun rz_ (_ : Unit) => rz_ = (m_comes X (nI p1) tm).1) (fun (_ : Unit) t => zMX g A mo ma ((m_comes X (nI p1) tm).2) t.heap) A) args s 0 0 A) (F0 m 94 ls []) := by
              intro n_30
              induction n_30 with
              | zero => intro j hm; exact absurd hm (Nat.not_lt_zero _)
              | succ n_30 ih =>
                intro j hm hj H locs ls hX hS hl
                have ih_32 := ih
                refine lv_iload hx hb dX3_comes_94 (lv_at hl 0 rfl) ?_
                refine lv_aload_n hx hb dX3_comes_96 rfl (lv_at hl 2 rfl) ?_
                refine zx_get hx hb hown hts hK hX 26 (by decide) q1047 rfl rfl dX3_comes_97 ?_
                refine zm_topi (y := X 26 0) (by simp [zu]) ?_
                refine zm_topi (y := nI (mW X)) (hW.1) ?_
                refine zl_ge (tgt := 135) (a := j) (b := mW X) hx hb (by first | decide | omega) (by first | decide | omega) dX3_comes_100 (by decide) (fun c_33 => ?_) (fun c_33 => ?_)
                · refine lv_aload_n hx hb dX3_comes_135 rfl (lv_at hl 2 rfl) ?_
                  refine lv_iload_n hx hb dX3_comes_136 rfl (lv_at hl 1 rfl) ?_
                  refine zl_ifeq (tgt := 144) hx hb dX3_comes_137 (by decide) (fun _ => ?_) (fun c_34 => absurd c_34 Bool.false_ne_true)
                  refine lv_iconst (v := 3) hx hb dX3_comes_144 (by decide) ?_
                  refine zx_put hx hb hown hts hK hX hS 0 (by decide) rfl q1021 rfl rfl rfl rfl dX3_comes_145 (fun H locs hX hS => ?_)
                  rw [zu_zu] at hX
                  refine lv_aload_n hx hb dX3_comes_148 rfl (lv_at hl 2 rfl) ?_
                  refine zx_get hx hb hown hts hK hX 0 (by decide) q1021 rfl rfl dX3_comes_149 ?_
                  refine zm_topi (y := 3) (by simp [zu]) ?_
                  refine lv_if_le (tgt := 157) hx hb dX3_comes_152 (by decide) (fun c_35 => absurd c_35 (by decide)) (fun _ => ?_)
                  refine lv_iconst (v := 0) hx hb dX3_comes_155 (by decide) ?_
                  have e1 : (0 : Int32) = (m_comes X (nI p1) tm).1 := by have hjw : j = mW X := (by omega); subst hjw; have hcm : mCm X p1 tm = false := (by simp [mCm, k_2, e_3, c_10, c_12, c_21, c_29]); simp [m_comes, hcm, hcp1, k_2, e_3, c_10]
                  have e2 : zu X 0 0 3 = (m_comes X (nI p1) tm).2 := by have hjw : j = mW X := (by omega); subst hjw; have hcm : mCm X p1 tm = false := (by simp [mCm, k_2, e_3, c_10, c_12, c_21, c_29]); simp [m_comes, hcm, hcp1, k_2, e_3, c_10]
                  rw [e2] at hX
                  exact ze_i hx hb hr hlocks hS dX3_comes_156 (Nat.le_refl _) (Nat.le_refl _) () e1 hX
                · refine lv_iload_n hx hb dX3_comes_103 rfl (lv_at hl 1 rfl) ?_
                  refine zl_ifeq (tgt := 127) hx hb dX3_comes_104 (by decide) (fun _ => ?_) (fun c_36 => absurd c_36 Bool.false_ne_true)
                  refine lv_iconst (v := 0) hx hb dX3_comes_127 (by decide) ?_
                  refine zm_topi (y := zb (false && !zany (fun k => decide (X 28 (mWt X k) = tm)) (j + 1))) (by simp [zany, zb]) ?_
                  refine lv_istore_n (lv' := [(3, .int (zb (false && !zany (fun k => decide (X 28 (mWt X k) = tm)) (j + 1)))), (4, .int (nI j)), (0, .ref mo), (1, .int (nI p1)), (2, .int tm)]) hx hb dX3_comes_128 rfl hl (by decide) rfl (fun ls hl => ?_)
                  refine lv_iinc (v := nI (j + 1)) (lv' := [(4, .int (nI (j + 1))), (3, .int (zb (false && !zany (fun k => decide (X 28 (mWt X k) = tm)) (j + 1)))), (0, .ref mo), (1, .int (nI p1)), (2, .int tm)]) hx hb dX3_comes_129 hl (k := 1) rfl (nI_1 j) (by decide) rfl (fun ls hl => ?_)
                  refine lv_goto (tgt := 94) hx hb dX3_comes_132 (by decide) ?_
                  exact ih_32 (j + 1) (by omega) (by omega) _ _ _ hX hS (lv_sub hl [0, 1, 2, 3, 4] rfl)
            exact L_31 ((mW X + 1 - 0) + 1) 0 (Nat.lt_succ_self _) (by omega) _ _ _ hX hS (lv_sub hl [0, 1, 2, 3, 4] rfl)
          · refine lv_aload_n hx hb dX3_comes_74 rfl (lv_at hl 0 rfl) ?_
            refine zx_get hx hb hown hts hK hX 5 (by decide) q1026 rfl rfl dX3_comes_75 ?_
            refine lv_iload_n hx hb dX3_comes_78 rfl (lv_at hl 1 rfl) ?_
            refine zx_ld (i := p1) hx hb hK hX 5 rfl rfl (n := 60) rfl (by omega) dX3_comes_79 ?_
            refine zm_topi (y := X 5 p1) (by simp [zu]) ?_
            refine lv_bipush (v := (-2)) hx hb dX3_comes_80 (by decide) ?_
            refine lv_icmp_eq (tgt := 89) hx hb dX3_comes_82 (by decide) (fun c_37 => ?_) (fun c_37 => ?_)
            · refine lv_iconst (v := 0) hx hb dX3_comes_89 (by decide) ?_
              refine lv_istore_n (lv' := [(3, .int 0), (0, .ref mo), (1, .int (nI p1)), (2, .int tm)]) hx hb dX3_comes_90 rfl hl (by decide) rfl (fun ls hl => ?_)
              refine lv_iconst (v := 0) hx hb dX3_comes_91 (by decide) ?_
              refine lv_istore (lv' := [(4, .int 0), (3, .int 0), (0, .ref mo), (1, .int (nI p1)), (2, .int tm)]) hx hb dX3_comes_92 hl (by decide) rfl (fun ls hl => ?_)
              have L_39 : ∀ (n_38 : Nat) (j : Nat), mW X + 1 - j < n_38 → (j ≤ mW X) → ∀ (H : Heap) (locs : List Loc) (ls : Array Slot), zMX g A mo ma (zu X 0 0 0) H → va_S A s.heap H locs → lv_has ls 5 [(4, .int (nI j)), (3, .int (zb (false && !zany (fun k => decide (X 28 (mWt X k) = tm)) j))), (0, .ref mo), (1, .int (nI p1)), (2, .int tm)] → W p l e (zR 4 0 0) s m args below meth c H locs 0 0 (MQ below (va_Qi (fun rz_ (_ : Unit) => rz_ = (m_comes X (nI p1) tm).1) (fun (_ : Unit) t => zMX g A mo ma ((m_comes X (nI p1) tm).2) t.heap) A) args s 0 0 A) (F0 m 94 ls []) := by
                intro n_38
                induction n_38 with
                | zero => intro j hm; exact absurd hm (Nat.not_lt_zero _)
                | succ n_38 ih =>
                  intro j hm hj H locs ls hX hS hl
                  have ih_40 := ih
                  refine lv_iload hx hb dX3_comes_94 (lv_at hl 0 rfl) ?_
                  refine lv_aload_n hx hb dX3_comes_96 rfl (lv_at hl 2 rfl) ?_
                  refine zx_get hx hb hown hts hK hX 26 (by decide) q1047 rfl rfl dX3_comes_97 ?_
                  refine zm_topi (y := X 26 0) (by simp [zu]) ?_
                  refine zm_topi (y := nI (mW X)) (hW.1) ?_
                  refine zl_ge (tgt := 135) (a := j) (b := mW X) hx hb (by first | decide | omega) (by first | decide | omega) dX3_comes_100 (by decide) (fun c_41 => ?_) (fun c_41 => ?_)
                  · refine lv_aload_n hx hb dX3_comes_135 rfl (lv_at hl 2 rfl) ?_
                    refine lv_iload_n hx hb dX3_comes_136 rfl (lv_at hl 1 rfl) ?_
                    refine zl_ifeq (tgt := 144) hx hb dX3_comes_137 (by decide) (fun _ => ?_) (fun c_42 => absurd c_42 Bool.false_ne_true)
                    refine lv_iconst (v := 3) hx hb dX3_comes_144 (by decide) ?_
                    refine zx_put hx hb hown hts hK hX hS 0 (by decide) rfl q1021 rfl rfl rfl rfl dX3_comes_145 (fun H locs hX hS => ?_)
                    rw [zu_zu] at hX
                    refine lv_aload_n hx hb dX3_comes_148 rfl (lv_at hl 2 rfl) ?_
                    refine zx_get hx hb hown hts hK hX 0 (by decide) q1021 rfl rfl dX3_comes_149 ?_
                    refine zm_topi (y := 3) (by simp [zu]) ?_
                    refine lv_if_le (tgt := 157) hx hb dX3_comes_152 (by decide) (fun c_43 => absurd c_43 (by decide)) (fun _ => ?_)
                    refine lv_iconst (v := 0) hx hb dX3_comes_155 (by decide) ?_
                    have e1 : (0 : Int32) = (m_comes X (nI p1) tm).1 := by have hjw : j = mW X := (by omega); subst hjw; have hcm : mCm X p1 tm = false := (by simp [mCm, k_2, e_3, c_10, c_12, c_21, c_29, c_37]); simp [m_comes, hcm, hcp1, k_2, e_3, c_10]
                    have e2 : zu X 0 0 3 = (m_comes X (nI p1) tm).2 := by have hjw : j = mW X := (by omega); subst hjw; have hcm : mCm X p1 tm = false := (by simp [mCm, k_2, e_3, c_10, c_12, c_21, c_29, c_37]); simp [m_comes, hcm, hcp1, k_2, e_3, c_10]
                    rw [e2] at hX
                    exact ze_i hx hb hr hlocks hS dX3_comes_156 (Nat.le_refl _) (Nat.le_refl _) () e1 hX
                  · refine lv_iload_n hx hb dX3_comes_103 rfl (lv_at hl 1 rfl) ?_
                    refine zl_ifeq (tgt := 127) hx hb dX3_comes_104 (by decide) (fun _ => ?_) (fun c_44 => absurd c_44 Bool.false_ne_true)
                    refine lv_iconst (v := 0) hx hb dX3_comes_127 (by decide) ?_
                    refine zm_topi (y := zb (false && !zany (fun k => decide (X 28 (mWt X k) = tm)) (j + 1))) (by simp [zany, zb]) ?_
                    refine lv_istore_n (lv' := [(3, .int (zb (false && !zany (fun k => decide (X 28 (mWt X k) = tm)) (j + 1)))), (4, .int (nI j)), (0, .ref mo), (1, .int (nI p1)), (2, .int tm)]) hx hb dX3_comes_128 rfl hl (by decide) rfl (fun ls hl => ?_)
                    refine lv_iinc (v := nI (j + 1)) (lv' := [(4, .int (nI (j + 1))), (3, .int (zb (false && !zany (fun k => decide (X 28 (mWt X k) = tm)) (j + 1)))), (0, .ref mo), (1, .int (nI p1)), (2, .int tm)]) hx hb dX3_comes_129 hl (k := 1) rfl (nI_1 j) (by decide) rfl (fun ls hl => ?_)
                    refine lv_goto (tgt := 94) hx hb dX3_comes_132 (by decide) ?_
                    exact ih_40 (j + 1) (by omega) (by omega) _ _ _ hX hS (lv_sub hl [0, 1, 2, 3, 4] rfl)
              exact L_39 ((mW X + 1 - 0) + 1) 0 (Nat.lt_succ_self _) (by omega) _ _ _ hX hS (lv_sub hl [0, 1, 2, 3, 4] rfl)
            · refine lv_iconst (v := 1) hx hb dX3_comes_85 (by decide) ?_
              refine lv_goto (tgt := 90) hx hb dX3_comes_86 (by decide) ?_
              refine lv_istore_n (lv' := [(3, .int 1), (0, .ref mo), (1, .int (nI p1)), (2, .int tm)]) hx hb dX3_comes_90 rfl hl (by decide) rfl (fun ls hl => ?_)
              refine lv_iconst (v := 0) hx hb dX3_comes_91 (by decide) ?_
              refine lv_istore (lv' := [(4, .int 0), (3, .int 1), (0, .ref mo), (1, .int (nI p1)), (2, .int tm)]) hx hb dX3_comes_92 hl (by decide) rfl (fun ls hl => ?_)
              have L_46 : ∀ (n_45 : Nat) (j : Nat), mW X + 1 - j < n_45 → (j ≤ mW X) → ∀ (H : Heap) (locs : List Loc) (ls : Array Slot), zMX g A mo ma (zu X 0 0 0) H → va_S A s.heap H locs → lv_has ls 5 [(4, .int (nI j)), (3, .int (zb (true && !zany (fun k => decide (X 28 (mWt X k) = tm)) j))), (0, .ref mo), (1, .int (nI p1)), (2, .int tm)] → W p l e (zR 4 0 0) s m args below meth c H locs 0 0 (MQ below (va_Qi (fun rz_ (_ : Unit) => rz_ = (m_comes X (nI p1) tm).1) (fun (_ : Unit) t => zMX g A mo ma ((m_comes X (nI p1) tm).2) t.heap) A) args s 0 0 A) (F0 m 94 ls []) := by
                intro n_45
                induction n_45 with
                | zero => intro j hm; exact absurd hm (Nat.not_lt_zero _)
                | succ n_45 ih =>
                  intro j hm hj H locs ls hX hS hl
                  have ih_47 := ih
                  refine lv_iload hx hb dX3_comes_94 (lv_at hl 0 rfl) ?_
                  refine lv_aload_n hx hb dX3_comes_96 rfl (lv_at hl 2 rfl) ?_
                  refine zx_get hx hb hown hts hK hX 26 (by decide) q1047 rfl rfl dX3_comes_97 ?_
                  refine zm_topi (y := X 26 0) (by simp [zu]) ?_
                  refine zm_topi (y := nI (mW X)) (hW.1) ?_
                  refine zl_ge (tgt := 135) (a := j) (b := mW X) hx hb (by first | decide | omega) (by first | decide | omega) dX3_comes_100 (by decide) (fun c_48 => ?_) (fun c_48 => ?_)
                  · refine lv_aload_n hx hb dX3_comes_135 rfl (lv_at hl 2 rfl) ?_
                    refine lv_iload_n hx hb dX3_comes_136 rfl (lv_at hl 1 rfl) ?_
                    refine zl_ifeq (tgt := 144) hx hb dX3_comes_137 (by decide) (fun c_49 => ?_) (fun c_49 => ?_)
                    · refine lv_iconst (v := 3) hx hb dX3_comes_144 (by decide) ?_
                      refine zx_put hx hb hown hts hK hX hS 0 (by decide) rfl q1021 rfl rfl rfl rfl dX3_comes_145 (fun H locs hX hS => ?_)
                      rw [zu_zu] at hX
                      refine lv_aload_n hx hb dX3_comes_148 rfl (lv_at hl 2 rfl) ?_
                      refine zx_get hx hb hown hts hK hX 0 (by decide) q1021 rfl rfl dX3_comes_149 ?_
                      refine zm_topi (y := 3) (by simp [zu]) ?_
                      refine lv_if_le (tgt := 157) hx hb dX3_comes_152 (by decide) (fun c_50 => absurd c_50 (by decide)) (fun _ => ?_)
                      refine lv_iconst (v := 0) hx hb dX3_comes_155 (by decide) ?_
                      have e1 : (0 : Int32) = (m_comes X (nI p1) tm).1 := by have hjw : j = mW X := (by omega); subst hjw; have hcm : mCm X p1 tm = false := (by simp [mCm, k_2, e_3, c_10, c_12, c_21, c_29, c_37]; simpa using c_49); simp [m_comes, hcm, hcp1, k_2, e_3, c_10]
                      have e2 : zu X 0 0 3 = (m_comes X (nI p1) tm).2 := by have hjw : j = mW X := (by omega); subst hjw; have hcm : mCm X p1 tm = false := (by simp [mCm, k_2, e_3, c_10, c_12, c_21, c_29, c_37]; simpa using c_49); simp [m_comes, hcm, hcp1, k_2, e_3, c_10]
                      rw [e2] at hX
                      exact ze_i hx hb hr hlocks hS dX3_comes_156 (Nat.le_refl _) (Nat.le_refl _) () e1 hX
                    · refine lv_iconst (v := 0) hx hb dX3_comes_140 (by decide) ?_
                      refine lv_goto (tgt := 145) hx hb dX3_comes_141 (by decide) ?_
                      refine zx_put hx hb hown hts hK hX hS 0 (by decide) rfl q1021 rfl rfl rfl rfl dX3_comes_145 (fun H locs hX hS => ?_)
                      rw [zu_zu] at hX
                      refine lv_aload_n hx hb dX3_comes_148 rfl (lv_at hl 2 rfl) ?_
                      refine zx_get hx hb hown hts hK hX 0 (by decide) q1021 rfl rfl dX3_comes_149 ?_
                      refine zm_topi (y := 0) (by simp [zu]) ?_
                      refine lv_if_le (tgt := 157) hx hb dX3_comes_152 (by decide) (fun _ => ?_) (fun c_51 => absurd (by decide) c_51)
                      refine lv_aload_n hx hb dX3_comes_157 rfl (lv_at hl 2 rfl) ?_
                      refine zx_get hx hb hown hts hK hX 27 (by decide) q1048 rfl rfl dX3_comes_158 ?_
                      refine lv_aload_n hx hb dX3_comes_161 rfl (lv_at hl 2 rfl) ?_
                      refine zx_get hx hb hown hts hK hX 26 (by decide) q1047 rfl rfl dX3_comes_162 ?_
                      refine zm_topi (y := X 26 0) (by simp [zu]) ?_
                      refine zm_topi (y := nI (mW X)) (hW.1) ?_
                      refine lv_iload_n hx hb dX3_comes_165 rfl (lv_at hl 3 rfl) ?_
                      refine zx_st (i := mW X) hx hb hK hX hS 27 rfl rfl (n := 8) rfl (by omega) dX3_comes_166 (fun H locs hX hS => ?_)
                      refine lv_aload_n hx hb dX3_comes_167 rfl (lv_at hl 2 rfl) ?_
                      refine zx_get hx hb hown hts hK hX 28 (by decide) q1049 rfl rfl dX3_comes_168 ?_
                      refine lv_iload_n hx hb dX3_comes_171 rfl (lv_at hl 3 rfl) ?_
                      refine lv_iload_n hx hb dX3_comes_172 rfl (lv_at hl 4 rfl) ?_
                      refine zx_st (i := p1) hx hb hK hX hS 28 rfl rfl (n := 60) rfl (by omega) dX3_comes_173 (fun H locs hX hS => ?_)
                      refine lv_aload_n hx hb dX3_comes_174 rfl (lv_at hl 2 rfl) ?_
                      refine lv_dup hx hb dX3_comes_175 rfl ?_
                      refine zx_get hx hb hown hts hK hX 26 (by decide) q1047 rfl rfl dX3_comes_176 ?_
                      refine zm_topi (y := X 26 0) (by simp [zu]) ?_
                      refine zm_topi (y := nI (mW X)) (hW.1) ?_
                      refine lv_iconst (v := 1) hx hb dX3_comes_179 (by decide) ?_
                      refine lv_iadd hx hb dX3_comes_180 ?_
                      refine zm_topi (y := nI (mW X + 1)) (nI_1 (mW X)) ?_
                      refine zx_put hx hb hown hts hK hX hS 26 (by decide) rfl q1047 rfl rfl rfl rfl dX3_comes_181 (fun H locs hX hS => ?_)
                      refine lv_aload_n hx hb dX3_comes_184 rfl (lv_at hl 2 rfl) ?_
                      refine zx_get hx hb hown hts hK hX 26 (by decide) q1047 rfl rfl dX3_comes_185 ?_
                      refine zm_topi (y := nI (mW X + 1)) (by simp [zu]) ?_
                      have e1 : (nI (mW X + 1) : Int32) = (m_comes X (nI p1) tm).1 := by have hjw : j = mW X := (by omega); subst hjw; have hcm : mCm X p1 tm = true := (by simp [mCm, k_2, e_3, c_10, c_12, c_21, c_29, c_37]; simpa using c_49); simp [m_comes, hcm, hcp1, k_2, e_3, c_10]
                      have e2 : zu (zu (zu (zu X 0 0 0) 27 (mW X) (nI p1)) 28 p1 tm) 26 0 (nI (mW X + 1)) = (m_comes X (nI p1) tm).2 := by have hjw : j = mW X := (by omega); subst hjw; have hcm : mCm X p1 tm = true := (by simp [mCm, k_2, e_3, c_10, c_12, c_21, c_29, c_37]; simpa using c_49); simp [m_comes, hcm, hcp1, k_2, e_3, c_10]
                      rw [e2] at hX
                      exact ze_i hx hb hr hlocks hS dX3_comes_188 (Nat.le_refl _) (Nat.le_refl _) () e1 hX
                  · refine lv_iload_n hx hb dX3_comes_103 rfl (lv_at hl 1 rfl) ?_
                    refine zl_ifeq (tgt := 127) hx hb dX3_comes_104 (by decide) (fun c_52 => ?_) (fun c_52 => ?_)
                    · refine lv_iconst (v := 0) hx hb dX3_comes_127 (by decide) ?_
                      refine zm_topi (y := zb (true && !zany (fun k => decide (X 28 (mWt X k) = tm)) (j + 1))) (by have h9 := c_52; simp at h9; simp [zany, zb, h9]) ?_
                      refine lv_istore_n (lv' := [(3, .int (zb (true && !zany (fun k => decide (X 28 (mWt X k) = tm)) (j + 1)))), (4, .int (nI j)), (0, .ref mo), (1, .int (nI p1)), (2, .int tm)]) hx hb dX3_comes_128 rfl hl (by decide) rfl (fun ls hl => ?_)
                      refine lv_iinc (v := nI (j + 1)) (lv' := [(4, .int (nI (j + 1))), (3, .int (zb (true && !zany (fun k => decide (X 28 (mWt X k) = tm)) (j + 1)))), (0, .ref mo), (1, .int (nI p1)), (2, .int tm)]) hx hb dX3_comes_129 hl (k := 1) rfl (nI_1 j) (by decide) rfl (fun ls hl => ?_)
                      refine lv_goto (tgt := 94) hx hb dX3_comes_132 (by decide) ?_
                      exact ih_47 (j + 1) (by omega) (by omega) _ _ _ hX hS (lv_sub hl [0, 1, 2, 3, 4] rfl)
                    · refine lv_aload_n hx hb dX3_comes_107 rfl (lv_at hl 2 rfl) ?_
                      refine zx_get hx hb hown hts hK hX 28 (by decide) q1049 rfl rfl dX3_comes_108 ?_
                      refine lv_aload_n hx hb dX3_comes_111 rfl (lv_at hl 2 rfl) ?_
                      refine zx_get hx hb hown hts hK hX 27 (by decide) q1048 rfl rfl dX3_comes_112 ?_
                      refine lv_iload hx hb dX3_comes_115 (lv_at hl 0 rfl) ?_
                      refine zx_ld (i := j) hx hb hK hX 27 rfl rfl (n := 8) rfl (by omega) dX3_comes_117 ?_
                      refine zm_topi (y := X 27 j) (by simp [zu]) ?_
                      refine zm_topi (hQ j (by omega)).1 ?_
                      have hwl := (hQ j (by omega)).2
                      refine zx_ld (i := mWt X j) hx hb hK hX 28 rfl rfl (n := 60) rfl (by omega) dX3_comes_118 ?_
                      refine zm_topi (y := X 28 (mWt X j)) (by simp [zu]) ?_
                      refine lv_iload_n hx hb dX3_comes_119 rfl (lv_at hl 4 rfl) ?_
                      refine lv_icmp_eq (tgt := 127) hx hb dX3_comes_120 (by decide) (fun c_53 => ?_) (fun c_53 => ?_)
                      · refine lv_iconst (v := 0) hx hb dX3_comes_127 (by decide) ?_
                        refine zm_topi (y := zb (true && !zany (fun k => decide (X 28 (mWt X k) = tm)) (j + 1))) (by have h9 := c_52; simp at h9; simp [zany, zb, h9, c_53]) ?_
                        refine lv_istore_n (lv' := [(3, .int (zb (true && !zany (fun k => decide (X 28 (mWt X k) = tm)) (j + 1)))), (4, .int (nI j)), (0, .ref mo), (1, .int (nI p1)), (2, .int tm)]) hx hb dX3_comes_128 rfl hl (by decide) rfl (fun ls hl => ?_)
                        refine lv_iinc (v := nI (j + 1)) (lv' := [(4, .int (nI (j + 1))), (3, .int (zb (true && !zany (fun k => decide (X 28 (mWt X k) = tm)) (j + 1)))), (0, .ref mo), (1, .int (nI p1)), (2, .int tm)]) hx hb dX3_comes_129 hl (k := 1) rfl (nI_1 j) (by decide) rfl (fun ls hl => ?_)
                        refine lv_goto (tgt := 94) hx hb dX3_comes_132 (by decide) ?_
                        exact ih_47 (j + 1) (by omega) (by omega) _ _ _ hX hS (lv_sub hl [0, 1, 2, 3, 4] rfl)
                      · refine lv_iconst (v := 1) hx hb dX3_comes_123 (by decide) ?_
                        refine lv_goto (tgt := 128) hx hb dX3_comes_124 (by decide) ?_
                        refine zm_topi (y := zb (true && !zany (fun k => decide (X 28 (mWt X k) = tm)) (j + 1))) (by have h9 := c_52; simp at h9; simp [zany, zb, h9, c_53]) ?_
                        refine lv_istore_n (lv' := [(3, .int (zb (true && !zany (fun k => decide (X 28 (mWt X k) = tm)) (j + 1)))), (4, .int (nI j)), (0, .ref mo), (1, .int (nI p1)), (2, .int tm)]) hx hb dX3_comes_128 rfl hl (by decide) rfl (fun ls hl => ?_)
                        refine lv_iinc (v := nI (j + 1)) (lv' := [(4, .int (nI (j + 1))), (3, .int (zb (true && !zany (fun k => decide (X 28 (mWt X k) = tm)) (j + 1)))), (0, .ref mo), (1, .int (nI p1)), (2, .int tm)]) hx hb dX3_comes_129 hl (k := 1) rfl (nI_1 j) (by decide) rfl (fun ls hl => ?_)
                        refine lv_goto (tgt := 94) hx hb dX3_comes_132 (by decide) ?_
                        exact ih_47 (j + 1) (by omega) (by omega) _ _ _ hX hS (lv_sub hl [0, 1, 2, 3, 4] rfl)
              exact L_46 ((mW X + 1 - 0) + 1) 0 (Nat.lt_succ_self _) (by omega) _ _ _ hX hS (lv_sub hl [0, 1, 2, 3, 4] rfl)
    · refine lv_iconst (v := 2) hx hb dX3_comes_28 (by decide) ?_
      refine lv_goto (tgt := 36) hx hb dX3_comes_29 (by decide) ?_
      refine zx_put hx hb hown hts hK hX hS 0 (by decide) rfl q1021 rfl rfl rfl rfl dX3_comes_36 (fun H locs hX hS => ?_)
      rw [zu_zu] at hX
      refine lv_aload_n hx hb dX3_comes_39 rfl (lv_at hl 0 rfl) ?_
      refine zx_get hx hb hown hts hK hX 0 (by decide) q1021 rfl rfl dX3_comes_40 ?_
      refine zm_topi (y := 2) (by simp [zu]) ?_
      refine lv_if_le (tgt := 48) hx hb dX3_comes_43 (by decide) (fun c_54 => absurd c_54 (by decide)) (fun _ => ?_)
      refine lv_iconst (v := 0) hx hb dX3_comes_46 (by decide) ?_
      have e1 : (0 : Int32) = (m_comes X (nI p1) tm).1 := by first | (simp [m_comes, mHd_w, mIn_w, mWs_w, mIs_w, mN_w, mK_w, mBo_w0, zu_zu, hcp1, k_2, e_3, c_10]; done) | (simp [m_comes, mHd_w, mIn_w, mWs_w, mIs_w, mN_w, mK_w, mBo_w0, zu_zu, hcp1, k_2, e_3, c_10, zin]; done)
      have e2 : zu X 0 0 2 = (m_comes X (nI p1) tm).2 := by first | (simp [m_comes, mHd_w, mIn_w, mWs_w, mIs_w, mN_w, mK_w, mBo_w0, zu_zu, hcp1, k_2, e_3, c_10]; done) | (simp [m_comes, mHd_w, mIn_w, mWs_w, mIs_w, mN_w, mK_w, mBo_w0, zu_zu, hcp1, k_2, e_3, c_10, zin]; done)
      rw [e2] at hX
      exact ze_i hx hb hr hlocks hS dX3_comes_47 (Nat.le_refl _) (Nat.le_refl _) () e1 hX
