theorem zn_X4_turn2 : zN yX4_turn 0 := by decide +kernel
set_option maxHeartbeats 4000000 in
theorem ct_X4_turn2 (l : Launch) (g : zG) (A : Nat → Prop) (S : zS) (X : zX) (T : zT) (hY : zSy S g X T) (hI : MH X) (i : Nat) (hi : i < mN X) : Met l yX4_turn (ws_ yX4_turn cX4_turn 2 (some .int)) (zR 1 0 0) (zP [.ref (S.pa i)] g A (zTH g A T)) (va_Qi (fun rz_ (T1 : zT) => rz_ = (m_trues X i).1 ∧ zSy S g (m_trues X i).2 T1 ∧ ∀ a, a ≠ S.pa i → T1 a = T a) (fun T1 t => zTH g A T1 t.heap) A) 0 0 A := by
  refine zb_met (by decide) (Nat.le_of_ble_eq_true rfl) ?_
  intro p e s m args below meth c ls hx hb hr hml hown hts hlocks hnm hK hT ha_ hl
  have hown : s.vm.findClass RX4 = some m.cls := hown
  have hS : va_S A s.heap s.heap [] := va_S.rf
  have hl : lv_has ls 2 [(0, .ref (S.pa i))] := hl
  obtain ⟨T0, eT0⟩ : ∃ T0, T0 = T := ⟨_, rfl⟩
  have hfr : ∀ a, a ≠ S.pa i → T a = T0 a := fun a _ => (congrFun eT0 a).symm
  refine lv_iconst (v := 2) hx hb dX4_turn_0 (by decide) ?_
  refine lv_sipush (v := 300) hx hb dX4_turn_1 (by decide) ?_
  refine lv_aload_n hx hb dX4_turn_4 rfl (lv_at hl 0 rfl) ?_
  refine zt_get hx hb hts in_X4 hown hK.1 hT (hY.p hi) rfl 15 (by decide) (hts _ q411) (fun _ h => h) rfl dX4_turn_5 ?_
  refine lv_isub hx hb dX4_turn_8 ?_
  refine lv_imul hx hb dX4_turn_9 ?_
  refine lv_istore_n (lv' := [(1, .int (2 * (300 - (X 14 i)))), (0, .ref (S.pa i))]) hx hb dX4_turn_10 rfl hl (by decide) rfl (fun ls hl => ?_)
  refine lv_aload_n hx hb dX4_turn_11 rfl (lv_at hl 1 rfl) ?_
  refine lv_dup hx hb dX4_turn_12 rfl ?_
  refine zt_get hx hb hts in_X4 hown hK.1 hT (hY.p hi) rfl 14 (by decide) (hts _ q409) (fun _ h => h) rfl dX4_turn_13 ?_
  refine lv_iload_n hx hb dX4_turn_16 rfl (lv_at hl 0 rfl) ?_
  refine lv_isub hx hb dX4_turn_17 ?_
  refine zt_put hx hb hts in_X4 tyX4 tyX4_ok nmX4 hown hK.1 hT hS (hY.p hi) rfl 14 (by decide) (hts _ q409) (fun _ h => h) rfl (v := .int ((X 13 i) - (2 * (300 - (X 14 i))))) (tyX4_ok 14 (by decide)) rfl rfl (show 14 < 20 from by decide) dX4_turn_18 (fun H locs hT hS => ?_)
  obtain ⟨T, hT, hY, hfr⟩ : ∃ T1, zTH g A T1 H ∧ zSy S g (zu X 13 i ((X 13 i) - (2 * (300 - (X 14 i))))) T1 ∧ (∀ a, a ≠ S.pa i → T1 a = T0 a) := ⟨_, hT, hY.pw hi 13 ((X 13 i) - (2 * (300 - (X 14 i)))) rfl (zpF_s S X 14 13 i _ (by decide)), fun a ha => (va_up_ne _ _ ha).trans (hfr a ha)⟩
  refine lv_aload_n hx hb dX4_turn_21 rfl (lv_at hl 1 rfl) ?_
  refine lv_sipush (v := 300) hx hb dX4_turn_22 (by decide) ?_
  refine zt_put hx hb hts in_X4 tyX4 tyX4_ok nmX4 hown hK.1 hT hS (hY.p hi) rfl 15 (by decide) (hts _ q411) (fun _ h => h) rfl (v := .int 300) (tyX4_ok 15 (by decide)) rfl rfl (show 15 < 20 from by decide) dX4_turn_25 (fun H locs hT hS => ?_)
  obtain ⟨T, hT, hY, hfr⟩ : ∃ T1, zTH g A T1 H ∧ zSy S g (zu (zu X 13 i ((X 13 i) - (2 * (300 - (X 14 i))))) 14 i 300) T1 ∧ (∀ a, a ≠ S.pa i → T1 a = T0 a) := ⟨_, hT, hY.pw hi 14 300 rfl (zpF_s S (zu X 13 i ((X 13 i) - (2 * (300 - (X 14 i))))) 15 14 i _ (by decide)), fun a ha => (va_up_ne _ _ ha).trans (hfr a ha)⟩
  refine lv_iload_n hx hb dX4_turn_28 rfl (lv_at hl 0 rfl) ?_
  exact ze_i hx hb hr hlocks hS dX4_turn_29 (Nat.zero_le _) (Nat.zero_le _) T ⟨rfl, hY, fun a ha => (hfr a ha).trans (congrFun eT0 a)⟩ hT
theorem zn_X1_turn : zN yX1_turn 1 := by decide +kernel
set_option maxHeartbeats 4000000 in
theorem ct_X1_turn (l : Launch) (hl0 : l.stackTraces = false) (g : zG) (A : Nat → Prop) (S : zS) (X : zX) (T_0 : zT) (hY : zSy S g X T_0) (hI : MH X) (hC : zKo S X) (hKk : zKk S X) (hz12 : ∀ p, X 12 p = 0 ∨ X 12 p = 1) (hcn : ∀ i, i < mN X → X 2 i = 2 → (S.K i).countP (fun q => decide (X 2 q = 3)) = mIn X (nI i) 3 ∧ mIn X (nI i) 3 ≤ 2) (htu : ∀ i, i < mN X → X 2 i = 2 → (S.K i).countP (fun q => decide (X 2 q = 3)) = 2 → (ztn S X i).1 = (mTu (zu X 0 0 0) (mWo X (nI i) false).toNatClampNeg (mWo X (nI i) true).toNatClampNeg).1 ∧ ∀ k, k ≠ 0 → k < 23 → (mTu (zu X 0 0 0) (mWo X (nI i) false).toNatClampNeg (mWo X (nI i) true).toNatClampNeg).2 k = (ztn S X i).2 k) (x : Int32) : vx_Met l yX1_turn (ws_ yX1_turn cX1_turn 7 (some .int)) (zR 12 5 26) (zP [.ref (S.A 0), .int x] g A (zTH g A T_0)) (va_Qi (fun rz_ (T1 : zT) => (rz_ = (m_turn X x).1 ∧ (m_turn X x).2 0 0 = 0) ∧ zSy S g (m_turn X x).2 T1) (fun T1 t => zTH g A T1 t.heap) A) (zXC (fun E => (E = xIO ∧ (m_turn X x).2 0 0 = 1) ∨ (E = xIA ∧ (m_turn X x).2 0 0 = 2) ∨ (E = xIS ∧ (m_turn X x).2 0 0 = 3)) g A T_0) 5 26 A := by
  refine zb_xmet (by decide) (Nat.le_of_ble_eq_true rfl) ?_
  intro p e s m args below meth c ls hx hb hr hml hown hts hlocks hnm hK hT ha_ hl hout
  have hown : s.vm.findClass RX1 = some m.cls := hown
  have hS : va_S A s.heap s.heap [] := va_S.rf
  have hl : lv_has ls 7 [(0, .ref (S.A 0)), (1, .int x)] := hl
  refine lv_aload_n hx hb dX1_turn_0 rfl (lv_at hl 0 rfl) ?_
  refine lv_iload_n hx hb dX1_turn_1 rfl (lv_at hl 1 rfl) ?_
  refine lv_iconst (v := 2) hx hb dX1_turn_2 (by decide) ?_
  refine zxc_q (zxr_V (As := [.int x, .int 2]) (rest := []) ⟨hx, hb, hml, hown, hts⟩ (ct_X1_needKind l hl0 g A S X _ hY hI x 2) zn_X1_needKind (lw_V q642 q644 qs9 q39 q645) rfl (by decide) (by decide) hK (fun _ h => h) hS hT (zt_recv hK.1 hT hY.w rfl) rfl hl.1 (Nat.le_of_ble_eq_true rfl) dX1_turn_3 ⟨by show _ + 2 ≤ _; omega, by show _ + 12 ≤ _; omega⟩) hS hout hlocks (fun E hE => by rcases hE with ⟨rfl, h0⟩ | ⟨rfl, h0, h1⟩; exact Or.inl ⟨rfl, by unfold m_turn; rw [if_pos (by rw [mKc_1 _ h0]; decide), mKc_1 _ h0]; exact zu_s X 0 0 1⟩; exact Or.inr (Or.inl ⟨rfl, by unfold m_turn; rw [if_pos (by rw [mKc_2 h0 h1]; decide), mKc_2 h0 h1]; exact zu_s X 0 0 2⟩)) (by show _ + 2 ≤ 5; omega) (by show _ + 12 ≤ 26; omega) (fun r _ H locs hr_1 hT _ _ hS => ?_)
  obtain ⟨rfl, hm_2, hk_3⟩ := hr_1
  obtain ⟨hq_4, hq_5⟩ := mIs_p hI hm_2
  have hkc : mKc X x 2 = 0 := mKc_0 hm_2 hk_3
  refine zm_top (v' := .ref (S.pa x.toNatClampNeg)) rfl ?_
  have hp := hq_5
  have hk2 := hk_3
  have hn60 := hI.1.2
  have hcl := zcK_le (S.K x.toNatClampNeg) (fun q => decide (X 2 q = 3)) (S.K x.toNatClampNeg).length; rw [zcK_t (Nat.le_refl _)] at hcl; have hl60 := (hC _ hp).1
  refine lv_astore_n (lv' := [(2, .ref (S.pa x.toNatClampNeg)), (0, .ref (S.A 0)), (1, .int x)]) hx hb dX1_turn_6 rfl hl (by decide) rfl (fun ls hl => ?_)
  refine lv_aload_n hx hb dX1_turn_7 rfl (lv_at hl 0 rfl) ?_
  refine lv_iconst (v := 3) hx hb dX1_turn_8 (by decide) ?_
  refine zc_i (zr_V (As := [.int 3]) (rest := []) ⟨hx, hb, hml, hown, hts⟩ (ct_X4_count l g A S X _ hY hC x.toNatClampNeg hq_5 3) zn_X4_count (lw_V q556 q557 q558 q54 q559) rfl (by decide) (by decide) hK (fun _ h => h) hS hT (zt_recv hK.1 hT (hY.p hq_5) rfl) rfl hl.1 (Nat.le_of_ble_eq_true rfl) dX1_turn_9 ⟨by show _ + 0 ≤ _; omega, by show _ + 0 ≤ _; omega⟩) hS (fun _ h => h) (fun r _ H locs hr_6 hT _ _ hS => ?_)
  subst hr_6
  refine lv_iconst (v := 2) hx hb dX1_turn_12 (by decide) ?_
  refine zl_ne (tgt := 27) (a := (S.K x.toNatClampNeg).countP (fun q => decide (X 2 q = 3))) (b := 2) hx hb (by first | decide | omega) (by first | decide | omega) dX1_turn_13 (by decide) (fun c_7 => ?_) (fun c_7 => ?_)
  · refine lv_iconst (v := 0) hx hb dX1_turn_27 (by decide) ?_
    refine zm_topi (y := zb false) rfl ?_
    refine zxc_v (zxr_S (As := [.int (zb false)]) (rest := []) ⟨hx, hb, hml, hown, hts⟩ (ct_X1_needState l hl0 g A _ false) zn_X1_needState (lw_S q338 q339 q39 q340) (by decide) (by decide) hK (fun _ h => h) hS hT rfl hl.1 (Nat.le_of_ble_eq_true rfl) dX1_turn_28 ⟨by show _ + 1 ≤ _; omega, by show _ + 6 ≤ _; omega⟩) hS hout hlocks (fun E hE => by obtain ⟨rfl, h0⟩ := hE; first | exact absurd h0 (by decide) | exact Or.inr (Or.inr ⟨rfl, by unfold m_turn; rw [if_neg (fun z => z hkc), if_pos (Or.inl (by have hxe := (mIs_p hI hm_2).1; rw [hxe, ← (hcn _ hp hk2).1]; have h2 := (hcn _ hp hk2).2; rw [← (hcn _ hp hk2).1] at h2; omega))]; exact zu_s X 0 0 3⟩)) (by show _ + 1 ≤ 5; omega) (by show _ + 6 ≤ 26; omega) (fun _ H locs hx_8 hT _ _ hS => ?_)
    cases hx_8
  · refine lv_aload_n hx hb dX1_turn_16 rfl (lv_at hl 0 rfl) ?_
    refine zc_i (zr_V (As := []) (rest := []) ⟨hx, hb, hml, hown, hts⟩ (ct_X4_isBound l g A S X _ hY hI x.toNatClampNeg hq_5 hz12) zn_X4_isBound (lw_V q547 q548 q549 q54 q550) rfl (by decide) (by decide) hK (fun _ h => h) hS hT (zt_recv hK.1 hT (hY.p hq_5) rfl) rfl hl.1 (Nat.le_of_ble_eq_true rfl) dX1_turn_17 ⟨by show _ + 0 ≤ _; omega, by show _ + 0 ≤ _; omega⟩) hS (fun _ h => h) (fun r _ H locs hr_9 hT _ _ hS => ?_)
    subst hr_9
    refine lv_if_ne (tgt := 27) hx hb dX1_turn_20 (by decide) (fun c_10 => ?_) (fun c_10 => ?_)
    · refine lv_iconst (v := 0) hx hb dX1_turn_27 (by decide) ?_
      refine zm_topi (y := zb false) rfl ?_
      refine zxc_v (zxr_S (As := [.int (zb false)]) (rest := []) ⟨hx, hb, hml, hown, hts⟩ (ct_X1_needState l hl0 g A _ false) zn_X1_needState (lw_S q338 q339 q39 q340) (by decide) (by decide) hK (fun _ h => h) hS hT rfl hl.1 (Nat.le_of_ble_eq_true rfl) dX1_turn_28 ⟨by show _ + 1 ≤ _; omega, by show _ + 6 ≤ _; omega⟩) hS hout hlocks (fun E hE => by obtain ⟨rfl, h0⟩ := hE; first | exact absurd h0 (by decide) | exact Or.inr (Or.inr ⟨rfl, by unfold m_turn; rw [if_neg (fun z => z hkc), if_pos (Or.inr c_10)]; exact zu_s X 0 0 3⟩)) (by show _ + 1 ≤ 5; omega) (by show _ + 6 ≤ 26; omega) (fun _ H locs hx_11 hT _ _ hS => ?_)
      cases hx_11
    · refine lv_iconst (v := 1) hx hb dX1_turn_23 (by decide) ?_
      refine lv_goto (tgt := 28) hx hb dX1_turn_24 (by decide) ?_
      refine zm_topi (y := zb true) rfl ?_
      refine zxc_v (zxr_S (As := [.int (zb true)]) (rest := []) ⟨hx, hb, hml, hown, hts⟩ (ct_X1_needState l hl0 g A _ true) zn_X1_needState (lw_S q338 q339 q39 q340) (by decide) (by decide) hK (fun _ h => h) hS hT rfl hl.1 (Nat.le_of_ble_eq_true rfl) dX1_turn_28 ⟨by show _ + 1 ≤ _; omega, by show _ + 6 ≤ _; omega⟩) hS hout hlocks (fun E hE => by obtain ⟨rfl, h0⟩ := hE; first | exact absurd h0 (by decide) | exact Or.inr (Or.inr ⟨rfl, by unfold m_turn; rw [if_neg (fun z => z hkc), if_pos (Or.inr c_10)]; exact zu_s X 0 0 3⟩)) (by show _ + 1 ≤ 5; omega) (by show _ + 6 ≤ 26; omega) (fun _ H locs hx_12 hT _ _ hS => ?_)
      have hc2 : (S.K x.toNatClampNeg).countP (fun q => decide (X 2 q = 3)) = 2 := c_7
      have hb12 : X 12 (mHd X x.toNatClampNeg) = 0 := c_10
      refine lv_iconst (v := 0) hx hb dX1_turn_31 (by decide) ?_
      refine lv_istore_n (lv' := [(3, .int 0), (2, .ref (S.pa x.toNatClampNeg)), (0, .ref (S.A 0)), (1, .int x)]) hx hb dX1_turn_32 rfl hl (by decide) rfl (fun ls hl => ?_)
      refine lv_aload_n hx hb dX1_turn_33 rfl (lv_at hl 1 rfl) ?_
      refine zt_getN hx hb hts in_X4 hown hK.1 hT (hY.p hq_5) rfl 5 (by decide) (va_Nw.use (A := args) rfl (hK.2.1.1 _ _ _ _ _ _ q393)) (fun _ h => h) rfl dX1_turn_34 ?_
      refine zc_q (zr_V (As := []) (rest := []) ⟨hx, hb, hml, hown, hts⟩ (ct_J2_iterator l g A _ _ _ _ (hY.k hq_5)) zn_J2_iterator (lw_V q745 q746 q747 q43 q748) rfl (by decide) (by decide) hK (fun _ h => h) hS hT (zt_recvL hK.1 hT (hY.k hq_5)) rfl hl.1 (Nat.le_of_ble_eq_true rfl) dX1_turn_37 ⟨by show _ + 1 ≤ _; omega, by show _ + 4 ≤ _; omega⟩) hS (fun _ h => h) (fun r it H locs hr1 hT _ _ hS => ?_)
      obtain ⟨rfl, hnit⟩ := hr1
      obtain ⟨T, hT, hY, hit⟩ : ∃ T1, zTH g A T1 H ∧ zSy S g X T1 ∧ T1 it = some (.inl (zo 10 [.int (nI 0), .int (-1), .int (S.mu (23 + 4 * x.toNatClampNeg)), .ref (S.A (23 + 4 * x.toNatClampNeg))])) := ⟨_, hT, hY.fresh hnit _, va_up_self _ _ _⟩
      refine zm_top (v' := .ref it) rfl ?_
      refine lv_astore (lv' := [(4, .ref it), (3, .int 0), (2, .ref (S.pa x.toNatClampNeg)), (0, .ref (S.A 0)), (1, .int x)]) hx hb dX1_turn_40 hl (by decide) rfl (fun ls hl => ?_)
      have L_14 : ∀ (n_13 : Nat) (k : Nat) (lr : Int32) (T : zT), ((S.K x.toNatClampNeg).length + 1 - k) < n_13 → (k ≤ (S.K x.toNatClampNeg).length) → (T it = some (.inl (zo 10 [.int (nI k), .int lr, .int (S.mu (23 + 4 * x.toNatClampNeg)), .ref (S.A (23 + 4 * x.toNatClampNeg))]))) → (zSy S g (((S.K x.toNatClampNeg).take k).foldl zt1 (0, X)).2 T) → ∀ (H : Heap) (locs : List Loc) (ls : Array Slot), zTH g A T H → va_S A s.heap H locs → lv_has ls 7 [(4, .ref it), (3, .int ((((S.K x.toNatClampNeg).take k).foldl zt1 (0, X)).1)), (2, .ref (S.pa x.toNatClampNeg)), (0, .ref (S.A 0)), (1, .int x)] → W p l e (zR 12 5 26) s m args below meth c H locs (((((0 + 2) + 0) + 0) + 1) + 1) (((((0 + 12) + 0) + 0) + 6) + 4) (vx_MQ below (va_Qi (fun rz_ (T1 : zT) => (rz_ = (m_turn X x).1 ∧ (m_turn X x).2 0 0 = 0) ∧ zSy S g (m_turn X x).2 T1) (fun T1 t => zTH g A T1 t.heap) A) (zXC (fun E => (E = xIO ∧ (m_turn X x).2 0 0 = 1) ∨ (E = xIA ∧ (m_turn X x).2 0 0 = 2) ∨ (E = xIS ∧ (m_turn X x).2 0 0 = 3)) g A T_0) args s 5 26 A) (F0 m 42 ls []) := by
        intro n_13
        induction n_13 with
        | zero => intro k lr T hm; exact absurd hm (Nat.not_lt_zero _)
        | succ n_13 ih =>
          intro k lr T hm hk hit hY H locs ls hT hS hl
          have ih_15 := ih
          obtain ⟨u, eu⟩ : ∃ u, u = ((S.K x.toNatClampNeg).take k).foldl zt1 (0, X) := ⟨_, rfl⟩
          rw [← eu] at hY
          have hr1 : u.2 1 = X 1 := by rw [eu]; exact zt1_keep (by decide) (by decide) _ _
          have hr2 : u.2 2 = X 2 := by rw [eu]; exact zt1_keep (by decide) (by decide) _ _
          have hr5 : u.2 5 = X 5 := by rw [eu]; exact zt1_keep (by decide) (by decide) _ _
          obtain ⟨hIy, hCy, hKy, hNy⟩ := zTr hr1 hr2 hr5 hI hC hKk
          have hiy : x.toNatClampNeg < mN u.2 := by rw [hNy]; exact hp
          have hl60 := (hCy _ hiy).1
          refine lv_aload hx hb dX1_turn_42 (lv_at hl 0 rfl) ?_
          refine zc5_i (zr_F (As := []) (rest := []) (hK.1.1 10 _ rfl).2 ⟨hx, hb, hml, hown, hts⟩ (ct_J16_hasNext l g A _ _ _ _ (hY.k hiy) it k _ hit (by simp; omega) (by simp; omega)) zn_F_has (lw_F q769 q773 q775 q63 q777) hK.2.1.2.2.2.2.2.2.2.1 (by decide) (by decide) hK (fun _ h => h) hS hT (zt_recv hK.1 hT hit rfl) rfl hl.1 (Nat.le_of_ble_eq_true rfl) dX1_turn_44 ⟨by show _ + 0 ≤ _; omega, by show _ + 0 ≤ _; omega⟩) hS (fun _ h => h) (fun r _ H locs hr1 hT _ _ hS => ?_)
          subst hr1
          refine zm_topi (y := zb (decide (k < (S.K x.toNatClampNeg).length))) (by simp) ?_
          refine zl_ifeq (tgt := 88) hx hb dX1_turn_49 (by decide) (fun c_16 => ?_) (fun c_16 => ?_)
          · have hkl : k = (S.K x.toNatClampNeg).length := by have := of_decide_eq_false c_16; omega
            have eu2 : u = (S.K x.toNatClampNeg).foldl zt1 (0, X) := by rw [eu, List.take_of_length_le (by omega)]
            have hl : lv_has ls 7 [(4, .ref it), (3, .int u.1), (2, .ref (S.pa x.toNatClampNeg)), (0, .ref (S.A 0)), (1, .int x)] := by rw [← eu] at hl; exact hl
            obtain ⟨v, ev⟩ : ∃ v, v = u := ⟨_, rfl⟩
            subst ev
            refine lv_aload_n hx hb dX1_turn_88 rfl (lv_at hl 2 rfl) ?_
            refine lv_iconst (v := 0) hx hb dX1_turn_89 (by decide) ?_
            refine zc_i (zr_V (As := [.int 0]) (rest := []) ⟨hx, hb, hml, hown, hts⟩ (ct_X4_diameter l g A S v.2 T hY hIy hCy hKy false 5 x.toNatClampNeg hiy (by omega)) zn_X4_diameter (lw_V q795 q719 q720 q54 q721) rfl (by decide) (by decide) hK (fun _ h => h) hS hT (zt_recv hK.1 hT (hY.p hiy) rfl) rfl hl.1 (Nat.le_of_ble_eq_true rfl) dX1_turn_90 ⟨by show _ + 0 ≤ _; omega, by show _ + 0 ≤ _; omega⟩) hS (fun _ h => h) (fun r _ H locs hr1 hT _ _ hS => ?_)
            subst hr1
            refine lv_istore (lv' := [(4, .int (zdi S v.2 false 5 x.toNatClampNeg)), (3, .int v.1), (2, .ref (S.pa x.toNatClampNeg)), (0, .ref (S.A 0)), (1, .int x)]) hx hb dX1_turn_93 hl (by decide) rfl (fun ls hl => ?_)
            refine lv_aload_n hx hb dX1_turn_95 rfl (lv_at hl 2 rfl) ?_
            refine zt_getN hx hb hts in_X4 hown hK.1 hT (hY.p hiy) rfl 5 (by decide) (va_Nw.use (A := args) rfl (hK.2.1.1 _ _ _ _ _ _ q393)) (fun _ h => h) rfl dX1_turn_96 ?_
            refine zc_q (zr_V (As := []) (rest := []) ⟨hx, hb, hml, hown, hts⟩ (ct_J2_iterator l g A _ _ _ _ (hY.k hiy)) zn_J2_iterator (lw_V q745 q746 q747 q43 q748) rfl (by decide) (by decide) hK (fun _ h => h) hS hT (zt_recvL hK.1 hT (hY.k hiy)) rfl hl.1 (Nat.le_of_ble_eq_true rfl) dX1_turn_99 ⟨by show _ + 1 ≤ _; omega, by show _ + 4 ≤ _; omega⟩) hS (fun _ h => h) (fun r it H locs hr1 hT _ _ hS => ?_)
            obtain ⟨rfl, hnit⟩ := hr1
            obtain ⟨T, hT, hY, hit⟩ : ∃ T1, zTH g A T1 H ∧ zSy S g v.2 T1 ∧ T1 it = some (.inl (zo 10 [.int (nI 0), .int (-1), .int (S.mu (23 + 4 * x.toNatClampNeg)), .ref (S.A (23 + 4 * x.toNatClampNeg))])) := ⟨_, hT, hY.fresh hnit _, va_up_self _ _ _⟩
            refine zm_top (v' := .ref it) rfl ?_
            refine lv_astore (lv' := [(5, .ref it), (4, .int (zdi S v.2 false 5 x.toNatClampNeg)), (3, .int v.1), (2, .ref (S.pa x.toNatClampNeg)), (0, .ref (S.A 0)), (1, .int x)]) hx hb dX1_turn_102 hl (by decide) rfl (fun ls hl => ?_)
            have L_18 : ∀ (n_17 : Nat) (k : Nat) (lr : Int32) (T : zT), ((S.K x.toNatClampNeg).length + 1 - k) < n_17 → (k ≤ (S.K x.toNatClampNeg).length) → (T it = some (.inl (zo 10 [.int (nI k), .int lr, .int (S.mu (23 + 4 * x.toNatClampNeg)), .ref (S.A (23 + 4 * x.toNatClampNeg))]))) → (zSy S g (((S.K x.toNatClampNeg).take k).foldl (zt2 (zdi S v.2 false 5 x.toNatClampNeg)) v).2 T) → ∀ (H : Heap) (locs : List Loc) (ls : Array Slot), zTH g A T H → va_S A s.heap H locs → lv_has ls 7 [(5, .ref it), (4, .int (zdi S v.2 false 5 x.toNatClampNeg)), (3, .int ((((S.K x.toNatClampNeg).take k).foldl (zt2 (zdi S v.2 false 5 x.toNatClampNeg)) v).1)), (2, .ref (S.pa x.toNatClampNeg)), (0, .ref (S.A 0)), (1, .int x)] → W p l e (zR 12 5 26) s m args below meth c H locs ((((((0 + 2) + 0) + 0) + 1) + 1) + 1) ((((((0 + 12) + 0) + 0) + 6) + 4) + 4) (vx_MQ below (va_Qi (fun rz_ (T1 : zT) => (rz_ = (m_turn X x).1 ∧ (m_turn X x).2 0 0 = 0) ∧ zSy S g (m_turn X x).2 T1) (fun T1 t => zTH g A T1 t.heap) A) (zXC (fun E => (E = xIO ∧ (m_turn X x).2 0 0 = 1) ∨ (E = xIA ∧ (m_turn X x).2 0 0 = 2) ∨ (E = xIS ∧ (m_turn X x).2 0 0 = 3)) g A T_0) args s 5 26 A) (F0 m 104 ls []) := by
              intro n_17
              induction n_17 with
              | zero => intro k lr T hm; exact absurd hm (Nat.not_lt_zero _)
              | succ n_17 ih =>
                intro k lr T hm hk hit hY H locs ls hT hS hl
                have ih_19 := ih
                clear eu
                obtain ⟨u, eu⟩ : ∃ u, u = ((S.K x.toNatClampNeg).take k).foldl (zt2 (zdi S v.2 false 5 x.toNatClampNeg)) v := ⟨_, rfl⟩
                rw [← eu] at hY
                have hs1 : u.2 1 = X 1 := by rw [eu]; exact (zt2_keep (by decide) _ _).trans hr1
                have hs2 : u.2 2 = X 2 := by rw [eu]; exact (zt2_keep (by decide) _ _).trans hr2
                have hs5 : u.2 5 = X 5 := by rw [eu]; exact (zt2_keep (by decide) _ _).trans hr5
                obtain ⟨hIy, hCy, hKy, hNy⟩ := zTr hs1 hs2 hs5 hI hC hKk
                have hiy : x.toNatClampNeg < mN u.2 := by rw [hNy]; exact hp
                have hl60 := (hCy _ hiy).1
                refine lv_aload hx hb dX1_turn_104 (lv_at hl 0 rfl) ?_
                refine zc5_i (zr_F (As := []) (rest := []) (hK.1.1 10 _ rfl).2 ⟨hx, hb, hml, hown, hts⟩ (ct_J16_hasNext l g A _ _ _ _ (hY.k hiy) it k _ hit (by simp; omega) (by simp; omega)) zn_F_has (lw_F q769 q773 q775 q63 q777) hK.2.1.2.2.2.2.2.2.2.1 (by decide) (by decide) hK (fun _ h => h) hS hT (zt_recv hK.1 hT hit rfl) rfl hl.1 (Nat.le_of_ble_eq_true rfl) dX1_turn_106 ⟨by show _ + 0 ≤ _; omega, by show _ + 0 ≤ _; omega⟩) hS (fun _ h => h) (fun r _ H locs hr1 hT _ _ hS => ?_)
                subst hr1
                refine zm_topi (y := zb (decide (k < (S.K x.toNatClampNeg).length))) (by simp) ?_
                refine zl_ifeq (tgt := 156) hx hb dX1_turn_111 (by decide) (fun c_20 => ?_) (fun c_20 => ?_)
                · refine lv_iload_n hx hb dX1_turn_156 rfl (lv_at hl 2 rfl) ?_
                  have hkl : k = (S.K x.toNatClampNeg).length := by have := of_decide_eq_false c_20; omega
                  have eu3 : u = ztn S X x.toNatClampNeg := by rw [eu, List.take_of_length_le (by omega)]; unfold ztn; rw [← eu2]
                  refine zm_topi (y := (ztn S X x.toNatClampNeg).1) (by rw [← eu, eu3]) ?_
                  rw [eu3] at hY
                  obtain ⟨t1, t2⟩ := htu _ hp hk2 hc2
                  have hxe : x = nI x.toNatClampNeg := (mIs_p hI hm_2).1
                  have e1 : m_turn X x = mTu (zu X 0 0 0) (mWo X x false).toNatClampNeg (mWo X x true).toNatClampNeg := by unfold m_turn; rw [if_neg (fun z => z hkc), if_neg (fun z => z.elim (fun z => z (by rw [hxe, ← (hcn _ hp hk2).1, hc2]; decide)) (fun z => z hb12))]
                  rw [← hxe] at t1 t2
                  exact vx_ret (ze_i hx hb hr hlocks hS dX1_turn_157 (by show _ ≤ 5; omega) (by show _ ≤ 26; omega) T (by rw [e1]; exact ⟨⟨t1, (mTu_00 _ _ _).trans (zu_s X 0 0 0)⟩, hY.hidR t2⟩) hT)
                · refine lv_aload hx hb dX1_turn_114 (lv_at hl 0 rfl) ?_
                  have hkit := of_decide_eq_true c_20
                  refine zc5_q (zr_F (As := []) (rest := []) (hK.1.1 10 _ rfl).2 ⟨hx, hb, hml, hown, hts⟩ (ct_J16_next l g A _ _ _ _ (hY.k hiy) it k _ hit (by simp; omega)) zn_F_nxt (lw_F q779 q782 q784 q63 q786) hK.2.1.2.2.2.2.2.2.2.2.1 (by decide) (by decide) hK (fun _ h => h) hS hT (zt_recv hK.1 hT hit rfl) rfl hl.1 (Nat.le_of_ble_eq_true rfl) dX1_turn_116 ⟨by show _ + 0 ≤ _; omega, by show _ + 0 ≤ _; omega⟩) hS (fun _ h => h) (fun r _ H locs hg_21 hT _ _ hS => ?_)
                  obtain ⟨T, hT, hY, hit⟩ : ∃ T1, zTH g A T1 H ∧ zSy S g u.2 T1 ∧ T1 it = some (.inl (zo 10 [.int (nI (k + 1)), .int (nI k), .int (S.mu (23 + 4 * x.toNatClampNeg)), .ref (S.A (23 + 4 * x.toNatClampNeg))])) := ⟨_, hT, hY.itu hit _, va_up_self _ _ _⟩
                  obtain ⟨q_22, hq_23, hm_24⟩ : ∃ q, (S.K x.toNatClampNeg)[k]? = some q ∧ q < mN u.2 := ⟨_, List.getElem?_eq_getElem (by omega), (hCy _ hiy).2 _ (List.getElem_mem _)⟩
                  have hg_21r : r = some (S.pa q_22) := by rw [hg_21]; exact Option.some.inj ((List.getElem?_eq_getElem _).symm.trans (by rw [List.getElem?_map, hq_23]; rfl))
                  clear hg_21
                  subst hg_21r
                  refine zm_top (v' := .ref (S.pa q_22)) rfl ?_
                  refine va_castS hx hb hown (hts _ q356) (hK.1.1 3 _ rfl).2 (zt_recv hK.1 hT (hY.p hm_24) (r := zCl[3]) rfl) dX1_turn_121 ?_
                  refine lv_astore (lv' := [(6, .ref (S.pa q_22)), (5, .ref it), (4, .int (zdi S v.2 false 5 x.toNatClampNeg)), (3, .int ((((S.K x.toNatClampNeg).take k).foldl (zt2 (zdi S v.2 false 5 x.toNatClampNeg)) v).1)), (2, .ref (S.pa x.toNatClampNeg)), (0, .ref (S.A 0)), (1, .int x)]) hx hb dX1_turn_124 hl (by decide) rfl (fun ls hl => ?_)
                  refine lv_aload hx hb dX1_turn_126 (lv_at hl 0 rfl) ?_
                  refine zt_getN hx hb hts in_X4 hown hK.1 hT (hY.p hm_24) rfl 1 (by decide) (va_Nw.use (A := args) rfl (hK.2.1.1 _ _ _ _ _ _ q385)) (fun _ h => h) rfl dX1_turn_128 ?_
                  refine lv_iconst (v := 3) hx hb dX1_turn_131 (by decide) ?_
                  refine lv_icmp_ne (tgt := 153) hx hb dX1_turn_132 (by decide) (fun c_25 => ?_) (fun c_25 => ?_)
                  · have hst : ((S.K x.toNatClampNeg).take (k + 1)).foldl (zt2 (zdi S v.2 false 5 x.toNatClampNeg)) v = zt2 (zdi S v.2 false 5 x.toNatClampNeg) u q_22 := by rw [zft hq_23, ← eu]
                    have hY2 : zSy S g (((S.K x.toNatClampNeg).take (k + 1)).foldl (zt2 (zdi S v.2 false 5 x.toNatClampNeg)) v).2 T := by rw [hst]; unfold zt2; rw [if_neg c_25]; exact hY
                    have hl : lv_has ls 7 [(6, .ref (S.pa q_22)), (5, .ref it), (4, .int (zdi S v.2 false 5 x.toNatClampNeg)), (3, .int ((((S.K x.toNatClampNeg).take (k + 1)).foldl (zt2 (zdi S v.2 false 5 x.toNatClampNeg)) v).1)), (2, .ref (S.pa x.toNatClampNeg)), (0, .ref (S.A 0)), (1, .int x)] := by rw [hst]; unfold zt2; rw [if_neg c_25]; rw [← eu] at hl; exact hl
                    refine lv_goto (tgt := 104) hx hb dX1_turn_153 (by decide) ?_
                    exact ih_19 (k + 1) (nI k) T (by omega) (by omega) hit hY2 _ _ _ hT hS (lv_sub hl [1, 2, 3, 4, 5, 6] rfl)
                  · refine lv_iload_n hx hb dX1_turn_135 rfl (lv_at hl 3 rfl) ?_
                    refine lv_aload hx hb dX1_turn_136 (lv_at hl 0 rfl) ?_
                    refine zt_getN hx hb hts in_X4 hown hK.1 hT (hY.p hm_24) rfl 14 (by decide) (va_Nw.use (A := args) rfl (hK.2.1.1 _ _ _ _ _ _ q410)) (fun _ h => h) rfl dX1_turn_138 ?_
                    refine lv_iload hx hb dX1_turn_141 (lv_at hl 2 rfl) ?_
                    refine lv_isub hx hb dX1_turn_143 ?_
                    refine lv_iadd hx hb dX1_turn_144 ?_
                    refine lv_istore_n (lv' := [(3, .int (((((S.K x.toNatClampNeg).take k).foldl (zt2 (zdi S v.2 false 5 x.toNatClampNeg)) v).1) + ((u.2 13 q_22) - (zdi S v.2 false 5 x.toNatClampNeg)))), (6, .ref (S.pa q_22)), (5, .ref it), (4, .int (zdi S v.2 false 5 x.toNatClampNeg)), (2, .ref (S.pa x.toNatClampNeg)), (0, .ref (S.A 0)), (1, .int x)]) hx hb dX1_turn_145 rfl hl (by decide) rfl (fun ls hl => ?_)
                    refine lv_aload hx hb dX1_turn_146 (lv_at hl 1 rfl) ?_
                    refine lv_iload hx hb dX1_turn_148 (lv_at hl 3 rfl) ?_
                    refine zt_putN hx hb hts in_X4 tyX4 tyX4_ok nmX4 hown hK.1 hT hS (hY.p hm_24) rfl 14 (by decide) (va_Nw.use (A := args) rfl (hK.2.1.1 _ _ _ _ _ _ q410)) (fun _ h => h) rfl (v := .int (zdi S v.2 false 5 x.toNatClampNeg)) (tyX4_ok 14 (by decide)) rfl rfl (show 14 < 20 from by decide) dX1_turn_150 (fun H locs hT hS => ?_)
                    obtain ⟨T, hT, hY, hit⟩ : ∃ T1, zTH g A T1 H ∧ zSy S g (zu u.2 13 q_22 (zdi S v.2 false 5 x.toNatClampNeg)) T1 ∧ T1 it = some (.inl (zo 10 [.int (nI (k + 1)), .int (nI k), .int (S.mu (23 + 4 * x.toNatClampNeg)), .ref (S.A (23 + 4 * x.toNatClampNeg))])) := ⟨_, hT, hY.pw hm_24 13 (zdi S v.2 false 5 x.toNatClampNeg) rfl (zpF_s S u.2 14 13 q_22 _ (by decide)), (va_up_ne _ _ (hY.ne (c := 20 + 4 * q_22) (Or.inr (by have := hm_24; omega)) hit (by decide))).trans hit⟩
                    have hst : ((S.K x.toNatClampNeg).take (k + 1)).foldl (zt2 (zdi S v.2 false 5 x.toNatClampNeg)) v = zt2 (zdi S v.2 false 5 x.toNatClampNeg) u q_22 := by rw [zft hq_23, ← eu]
                    have hY2 : zSy S g (((S.K x.toNatClampNeg).take (k + 1)).foldl (zt2 (zdi S v.2 false 5 x.toNatClampNeg)) v).2 T := by rw [hst]; unfold zt2; rw [if_pos c_25]; exact hY
                    have hl : lv_has ls 7 [(3, .int ((((S.K x.toNatClampNeg).take (k + 1)).foldl (zt2 (zdi S v.2 false 5 x.toNatClampNeg)) v).1)), (6, .ref (S.pa q_22)), (5, .ref it), (4, .int (zdi S v.2 false 5 x.toNatClampNeg)), (2, .ref (S.pa x.toNatClampNeg)), (0, .ref (S.A 0)), (1, .int x)] := by rw [hst]; unfold zt2; rw [if_pos c_25]; rw [← eu] at hl; exact hl
                    refine lv_goto (tgt := 104) hx hb dX1_turn_153 (by decide) ?_
                    exact ih_19 (k + 1) (nI k) T (by omega) (by omega) hit hY2 _ _ _ hT hS (lv_sub hl [2, 3, 0, 4, 5, 6] rfl)
            exact L_18 (((S.K x.toNatClampNeg).length + 1 - 0) + 1) 0 (-1) T (Nat.lt_succ_self _) (Nat.zero_le _) hit hY _ _ _ hT hS (lv_sub hl [0, 1, 2, 3, 4, 5] rfl)
          · refine lv_aload hx hb dX1_turn_52 (lv_at hl 0 rfl) ?_
            have hkit := of_decide_eq_true c_16
            refine zc5_q (zr_F (As := []) (rest := []) (hK.1.1 10 _ rfl).2 ⟨hx, hb, hml, hown, hts⟩ (ct_J16_next l g A _ _ _ _ (hY.k hiy) it k _ hit (by simp; omega)) zn_F_nxt (lw_F q779 q782 q784 q63 q786) hK.2.1.2.2.2.2.2.2.2.2.1 (by decide) (by decide) hK (fun _ h => h) hS hT (zt_recv hK.1 hT hit rfl) rfl hl.1 (Nat.le_of_ble_eq_true rfl) dX1_turn_54 ⟨by show _ + 0 ≤ _; omega, by show _ + 0 ≤ _; omega⟩) hS (fun _ h => h) (fun r _ H locs hg_26 hT _ _ hS => ?_)
            obtain ⟨T, hT, hY, hit⟩ : ∃ T1, zTH g A T1 H ∧ zSy S g u.2 T1 ∧ T1 it = some (.inl (zo 10 [.int (nI (k + 1)), .int (nI k), .int (S.mu (23 + 4 * x.toNatClampNeg)), .ref (S.A (23 + 4 * x.toNatClampNeg))])) := ⟨_, hT, hY.itu hit _, va_up_self _ _ _⟩
            obtain ⟨q_27, hq_28, hm_29⟩ : ∃ q, (S.K x.toNatClampNeg)[k]? = some q ∧ q < mN u.2 := ⟨_, List.getElem?_eq_getElem (by omega), (hCy _ hiy).2 _ (List.getElem_mem _)⟩
            have hg_26r : r = some (S.pa q_27) := by rw [hg_26]; exact Option.some.inj ((List.getElem?_eq_getElem _).symm.trans (by rw [List.getElem?_map, hq_28]; rfl))
            clear hg_26
            subst hg_26r
            refine zm_top (v' := .ref (S.pa q_27)) rfl ?_
            refine va_castS hx hb hown (hts _ q356) (hK.1.1 3 _ rfl).2 (zt_recv hK.1 hT (hY.p hm_29) (r := zCl[3]) rfl) dX1_turn_59 ?_
            refine lv_astore (lv' := [(5, .ref (S.pa q_27)), (4, .ref it), (3, .int ((((S.K x.toNatClampNeg).take k).foldl zt1 (0, X)).1)), (2, .ref (S.pa x.toNatClampNeg)), (0, .ref (S.A 0)), (1, .int x)]) hx hb dX1_turn_62 hl (by decide) rfl (fun ls hl => ?_)
            refine lv_iload_n hx hb dX1_turn_64 rfl (lv_at hl 2 rfl) ?_
            refine lv_aload hx hb dX1_turn_65 (lv_at hl 0 rfl) ?_
            refine zt_getN hx hb hts in_X4 hown hK.1 hT (hY.p hm_29) rfl 1 (by decide) (va_Nw.use (A := args) rfl (hK.2.1.1 _ _ _ _ _ _ q385)) (fun _ h => h) rfl dX1_turn_67 ?_
            refine lv_iconst (v := 3) hx hb dX1_turn_70 (by decide) ?_
            refine lv_icmp_ne (tgt := 82) hx hb dX1_turn_71 (by decide) (fun c_30 => ?_) (fun c_30 => ?_)
            · refine lv_iconst (v := 0) hx hb dX1_turn_82 (by decide) ?_
              refine lv_iadd hx hb dX1_turn_83 ?_
              have hst : ((S.K x.toNatClampNeg).take (k + 1)).foldl zt1 (0, X) = zt1 u q_27 := by rw [zft hq_28, ← eu]
              have hY2 : zSy S g (((S.K x.toNatClampNeg).take (k + 1)).foldl zt1 (0, X)).2 T := by rw [hst]; unfold zt1; rw [if_neg c_30]; exact hY
              refine zm_topi (y := (((S.K x.toNatClampNeg).take (k + 1)).foldl zt1 (0, X)).1) (by rw [← eu] at *; rw [hst]; unfold zt1; rw [if_neg c_30]; exact Int32.add_zero _) ?_
              refine lv_istore_n (lv' := [(3, .int ((((S.K x.toNatClampNeg).take (k + 1)).foldl zt1 (0, X)).1)), (5, .ref (S.pa q_27)), (4, .ref it), (2, .ref (S.pa x.toNatClampNeg)), (0, .ref (S.A 0)), (1, .int x)]) hx hb dX1_turn_84 rfl hl (by decide) rfl (fun ls hl => ?_)
              refine lv_goto (tgt := 42) hx hb dX1_turn_85 (by decide) ?_
              exact ih_15 (k + 1) (nI k) T (by omega) (by omega) hit hY2 _ _ _ hT hS (lv_sub hl [2, 0, 3, 4, 5] rfl)
            · refine lv_aload hx hb dX1_turn_74 (lv_at hl 0 rfl) ?_
              have hne := hY.ne (c := 20 + 4 * q_27) (Or.inr (by omega)) hit (by decide)
              refine zc_i (zr_V (As := []) (rest := [.int ((((S.K x.toNatClampNeg).take k).foldl zt1 (0, X)).1)]) ⟨hx, hb, hml, hown, hts⟩ (ct_X4_turn2 l g A S u.2 T hY hIy q_27 hm_29) zn_X4_turn2 (lw_V q791 q792 q793 q54 q794) rfl (by decide) (by decide) hK (fun _ h => h) hS hT (zt_recv hK.1 hT (hY.p hm_29) rfl) rfl hl.1 (Nat.le_of_ble_eq_true rfl) dX1_turn_76 ⟨by show _ + 0 ≤ _; omega, by show _ + 0 ≤ _; omega⟩) hS (fun _ h => h) (fun r T H locs hr1 hT _ _ hS => ?_)
              obtain ⟨rfl, hY, hfr⟩ := hr1
              have hit := (hfr _ hne).trans hit
              refine lv_goto (tgt := 83) hx hb dX1_turn_79 (by decide) ?_
              refine lv_iadd hx hb dX1_turn_83 ?_
              have hst : ((S.K x.toNatClampNeg).take (k + 1)).foldl zt1 (0, X) = zt1 u q_27 := by rw [zft hq_28, ← eu]
              have hY2 : zSy S g (((S.K x.toNatClampNeg).take (k + 1)).foldl zt1 (0, X)).2 T := by rw [hst]; unfold zt1; rw [if_pos c_30]; exact hY
              refine zm_topi (y := (((S.K x.toNatClampNeg).take (k + 1)).foldl zt1 (0, X)).1) (by rw [← eu] at *; rw [hst]; unfold zt1; rw [if_pos c_30]) ?_
              refine lv_istore_n (lv' := [(3, .int ((((S.K x.toNatClampNeg).take (k + 1)).foldl zt1 (0, X)).1)), (5, .ref (S.pa q_27)), (4, .ref it), (2, .ref (S.pa x.toNatClampNeg)), (0, .ref (S.A 0)), (1, .int x)]) hx hb dX1_turn_84 rfl hl (by decide) rfl (fun ls hl => ?_)
              refine lv_goto (tgt := 42) hx hb dX1_turn_85 (by decide) ?_
              exact ih_15 (k + 1) (nI k) T (by omega) (by omega) hit hY2 _ _ _ hT hS (lv_sub hl [2, 0, 3, 4, 5] rfl)
      exact L_14 (((S.K x.toNatClampNeg).length + 1 - 0) + 1) 0 (-1) T (Nat.lt_succ_self _) (Nat.zero_le _) hit hY _ _ _ hT hS (lv_sub hl [0, 1, 2, 3, 4] rfl)
