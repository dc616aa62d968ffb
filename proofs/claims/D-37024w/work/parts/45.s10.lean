theorem zn_X4_quarantineAll : zN yX4_quarantineAll 0 := by decide +kernel
set_option maxHeartbeats 4000000 in
theorem ct_X4_quarantineAll (l : Launch) (g : zG) (A : Nat → Prop) (S : zS) (n : Nat) : ∀ (X : zX) (T : zT) (hY : zSy S g X T) (hI : MH X) (hC : zKo S X) (hKk : zKk S X) (i : Nat) (hi : i < mN X) (hn : 5 ≤ mK X i + n), Met l yX4_quarantineAll (ws_ yX4_quarantineAll cX4_quarantineAll 2 none) (zR (n + 5) 0 0) (zP [.ref (S.pa i)] g A (zTH g A T)) (va_Qv (fun (T1 : zT) => zSy S g (zqa S n i X) T1) (fun T1 t => zTH g A T1 t.heap) A) 0 0 A := by
  induction n with
  | zero => intro X T hY hI hC hKk i hi hn; have := (hI.2.1 i hi).2; omega
  | succ n IH =>
    intro X T hY hI hC hKk i hi hn
    have hlen := (hC i hi).1
    refine zb_met (by decide) (Nat.le_of_ble_eq_true rfl) ?_
    intro p e s m args below meth c ls hx hb hr hml hown hts hlocks hnm hK hT ha_ hl
    have hown : s.vm.findClass RX4 = some m.cls := hown
    have hS : va_S A s.heap s.heap [] := va_S.rf
    have hl : lv_has ls 2 [(0, .ref (S.pa i))] := hl
    refine lv_aload_n hx hb dX4_quarantineAll_0 rfl (lv_at hl 0 rfl) ?_
    refine zc_v (zr_V (As := []) (rest := []) ⟨hx, hb, hml, hown, hts⟩ (ct_X4_quarantine l g A S X _ hY hI i hi) zn_X4_quarantine (lw_V q733 q734 q735 q54 q736) rfl (by omega) (by decide) hK (fun _ h => h) hS hT (zt_recv hK.1 hT (hY.p hi) rfl) rfl hl.1 (Nat.le_of_ble_eq_true rfl) dX4_quarantineAll_1 ⟨Nat.le_refl _, Nat.le_refl _⟩) hS (fun _ h => h) (fun T H locs hY hT _ _ hS => ?_)
    refine lv_iconst (v := 0) hx hb dX4_quarantineAll_4 (by decide) ?_
    refine lv_istore_n (lv' := [(1, .int 0), (0, .ref (S.pa i))]) hx hb dX4_quarantineAll_5 rfl hl (by decide) rfl (fun ls hl => ?_)
    have L_2 : ∀ (n_1 : Nat) (k : Nat) (T : zT), ((S.K i).length + 1 - k) < n_1 → (k ≤ (S.K i).length) → (zSy S g (((S.K i).take k).foldl (fun Y q => zqa S n q Y) (m_holds X i)) T) → ∀ (H : Heap) (locs : List Loc) (ls : Array Slot), zTH g A T H → va_S A s.heap H locs → lv_has ls 2 [(1, .int (nI k)), (0, .ref (S.pa i))] → W p l e (zR (n + 1 + 5) 0 0) s m args below meth c H locs 0 0 (MQ below (va_Qv (fun (T1 : zT) => zSy S g (zqa S (n + 1) i X) T1) (fun T1 t => zTH g A T1 t.heap) A) args s 0 0 A) (F0 m 6 ls []) := by
      intro n_1
      induction n_1 with
      | zero => intro k T hm; exact absurd hm (Nat.not_lt_zero _)
      | succ n_1 ih =>
        intro k T hm hk hY H locs ls hT hS hl
        have ih_3 := ih
        obtain ⟨Y, eY⟩ : ∃ Y, Y = ((S.K i).take k).foldl (fun Y q => zqa S n q Y) (m_holds X i) := ⟨_, rfl⟩
        rw [← eY] at hY
        have hr1 : Y 1 = X 1 := by rw [eY, zfold_keep (S := S) (fun Y q => zqa_keep S (by decide) (by decide) n q Y), m_holds_keep X i (by decide) (by decide)]
        have hr2 : Y 2 = X 2 := by rw [eY, zfold_keep (S := S) (fun Y q => zqa_keep S (by decide) (by decide) n q Y), m_holds_keep X i (by decide) (by decide)]
        have hr5 : Y 5 = X 5 := by rw [eY, zfold_keep (S := S) (fun Y q => zqa_keep S (by decide) (by decide) n q Y), m_holds_keep X i (by decide) (by decide)]
        obtain ⟨hIy, hCy, hKy, hNy⟩ := zTr hr1 hr2 hr5 hI hC hKk
        have hiy : i < mN Y := by rw [hNy]; exact hi
        refine lv_iload_n hx hb dX4_quarantineAll_6 rfl (lv_at hl 0 rfl) ?_
        refine lv_aload_n hx hb dX4_quarantineAll_7 rfl (lv_at hl 1 rfl) ?_
        refine zt_get hx hb hts in_X4 hown hK.1 hT (hY.p hiy) rfl 5 (by decide) (hts _ q392) (fun _ h => h) rfl dX4_quarantineAll_8 ?_
        refine zc_i (zr_V (As := []) (rest := [.int (nI k)]) ⟨hx, hb, hml, hown, hts⟩ (ct_J2_size l g A T _ (S.mu (23 + 4 * i)) _ (hY.k hiy)) zn_J2_size (lw_V q560 q226 q227 q43 q228) rfl (by omega) (by decide) hK (fun _ h => h) hS hT (zt_recvL hK.1 hT (hY.k hiy)) rfl hl.1 (Nat.le_of_ble_eq_true rfl) dX4_quarantineAll_11 ⟨by show _ + 0 ≤ _; omega, by show _ + 0 ≤ _; omega⟩) hS (fun _ h => h) (fun r _ H locs hr1 hT _ _ hS => ?_)
        subst hr1
        refine zm_topi (y := nI ((S.K i).length)) (by simp) ?_
        refine zl_ge (tgt := 37) (a := k) (b := (S.K i).length) hx hb (by first | decide | omega) (by first | decide | omega) dX4_quarantineAll_14 (by decide) (fun c_4 => ?_) (fun c_4 => ?_)
        · exact ze_v hx hb hr hlocks hS dX4_quarantineAll_37 (by show _ ≤ 0; omega) (by show _ ≤ 0; omega) T (by rw [eY, List.take_of_length_le (by omega)] at hY; exact hY) hT
        · refine lv_aload_n hx hb dX4_quarantineAll_17 rfl (lv_at hl 1 rfl) ?_
          refine zt_get hx hb hts in_X4 hown hK.1 hT (hY.p hiy) rfl 5 (by decide) (hts _ q392) (fun _ h => h) rfl dX4_quarantineAll_18 ?_
          refine lv_iload_n hx hb dX4_quarantineAll_21 rfl (lv_at hl 0 rfl) ?_
          refine zc_q (zr_V (As := [.int (nI k)]) (rest := []) ⟨hx, hb, hml, hown, hts⟩ (ct_J2_get l g A T _ (S.mu (23 + 4 * i)) _ (hY.k hiy) k (by simpa using (show k < (S.K i).length from by omega))) zn_J2_get (lw_V q561 q235 q236 q43 q237) rfl (by omega) (by decide) hK (fun _ h => h) hS hT (zt_recvL hK.1 hT (hY.k hiy)) rfl hl.1 (Nat.le_of_ble_eq_true rfl) dX4_quarantineAll_22 ⟨by show _ + 0 ≤ _; omega, by show _ + 0 ≤ _; omega⟩) hS (fun _ h => h) (fun r _ H locs hg_5 hT _ _ hS => ?_)
          obtain ⟨q_6, hq_7, hm_8⟩ : ∃ q, (S.K i)[k]? = some q ∧ q < mN Y := ⟨_, List.getElem?_eq_getElem (by omega), (hCy _ hiy).2 _ (List.getElem_mem _)⟩
          have hg_5r : r = some (S.pa q_6) := by rw [hg_5]; exact Option.some.inj ((List.getElem?_eq_getElem _).symm.trans (by rw [List.getElem?_map, hq_7]; rfl))
          clear hg_5
          subst hg_5r
          refine zm_top (v' := .ref (S.pa q_6)) rfl ?_
          refine va_castS hx hb hown (hts _ q555) (hK.1.1 3 _ rfl).2 (zt_recv hK.1 hT (hY.p hm_8) (r := zCl[3]) rfl) dX4_quarantineAll_25 ?_
          refine zc_v (zr_V (As := []) (rest := []) ⟨hx, hb, hml, hown, hts⟩ (IH Y _ hY hIy hCy hKy q_6 hm_8 (by have := hKy _ hiy _ (List.mem_of_getElem? hq_7); have z : mK Y i = mK X i := (by unfold mK; rw [hr2]); rw [z] at this; omega)) zn_X4_quarantineAll (lw_V q737 q730 q731 q54 q732) rfl (by omega) (by decide) hK (fun _ h => h) hS hT (zt_recv hK.1 hT (hY.p hm_8) rfl) rfl hl.1 (Nat.le_of_ble_eq_true rfl) dX4_quarantineAll_28 ⟨by show _ + 0 ≤ _; omega, by show _ + 0 ≤ _; omega⟩) hS (fun _ h => h) (fun T H locs hY hT _ _ hS => ?_)
          have hY2 : zSy S g (((S.K i).take (k + 1)).foldl (fun Y q => zqa S n q Y) (m_holds X i)) T := by rw [zft hq_7, ← eY]; exact hY
          refine lv_iinc (v := nI (k + 1)) (lv' := [(1, .int (nI (k + 1))), (0, .ref (S.pa i))]) hx hb dX4_quarantineAll_31 hl (k := 0) rfl (nI_1 k) (by decide) rfl (fun ls hl => ?_)
          refine lv_goto (tgt := 6) hx hb dX4_quarantineAll_34 (by decide) ?_
          exact ih_3 (k + 1) T (by omega) (by omega) hY2 _ _ _ hT hS (lv_sub hl [0, 1] rfl)
    exact L_2 (((S.K i).length + 1 - 0) + 1) 0 T (Nat.lt_succ_self _) (Nat.zero_le _) hY _ _ _ hT hS (lv_sub hl [0, 1] rfl)
