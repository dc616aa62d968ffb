/-! THE REFERENCE's CONSTRUCTOR -/
def zFi (ma : Nat → Nat) (i : Nat) : List Value := (List.range 33).map (fun k => if zma k = true then (if k < i then .ref (ma k) else .null) else .int 0)
theorem zFi_set (ma : Nat → Nat) {i k : Nat} (q : Nat) (hk : k < 33) (hka : zma k = true) (hi : i ≤ k) (hg : ∀ j, i ≤ j → j < k → zma j = false) : (zFi ma i).set k (.ref q) = zFi (va_up ma k q) (k + 1) := by
  refine List.ext_getElem (by simp [zFi]) (fun j h1 h2 => ?_)
  have hj : j < 33 := by simp [zFi] at h2; exact h2
  rw [List.getElem_set]
  by_cases c : k = j
  · subst c
    rw [if_pos rfl]
    simp [zFi, hka, va_up]
  · rw [if_neg c]
    simp only [zFi, List.getElem_map, List.getElem_range]
    by_cases z : zma j = true
    · rw [if_pos z, if_pos z]
      by_cases y : j < i
      · rw [if_pos y, if_pos (by omega), va_up_ne _ _ (Ne.symm c)]
      · rw [if_neg y]
        by_cases w : j < k
        · exact absurd z (by rw [hg j (by omega) w]; decide)
        · rw [if_neg (by omega)]
    · rw [if_neg z, if_neg z]
def zIn (g : zG) (T : zT) (mo : Nat) (ma : Nat → Nat) (i : Nat) : Prop :=
  T mo = some (.inl (zo 2 (zFi ma i))) ∧ (∀ k, k < i → zma k = true → T (ma k) = some (.inl (zmE g (fun _ _ => 0) k))) ∧ (∀ j k, j < i → k < i → zma j = true → zma k = true → ma j = ma k → j = k) ∧ ∀ k, k < i → zma k = true → ma k ≠ mo
theorem zIn.step {g : zG} {T : zT} {mo : Nat} {ma : Nat → Nat} {i k q : Nat} {e : va_E} (h : zIn g T mo ma i) (hq : T q = none) (hk : k < 33) (hka : zma k = true) (hi : i ≤ k) (hg : ∀ j, i ≤ j → j < k → zma j = false) (he : e = zmE g (fun _ _ => 0) k) :
    zIn g (va_up (va_up T q (some (.inl e))) mo (some (.inl (zo 2 ((zFi ma i).set k (.ref q)))))) mo (va_up ma k q) (k + 1) := by
  obtain ⟨h1, h2, h3, h4⟩ := h
  have hqm : q ≠ mo := fun z => by rw [z, h1] at hq; cases hq
  have hlt : ∀ j, j < k + 1 → zma j = true → j < i ∨ j = k := fun j hj hz => by
    by_cases c : j = k
    · exact Or.inr c
    · by_cases y : j < i
      · exact Or.inl y
      · exact absurd hz (by rw [hg j (by omega) (by omega)]; decide)
  have hne : ∀ j, j < i → zma j = true → ma j ≠ q := fun j hj hz z => by
    have := h2 j hj hz
    rw [z, hq] at this
    cases this
  refine ⟨by rw [va_up_self, zFi_set ma q hk hka hi hg], fun j hj hz => ?_, fun j j2 hj hj2 hz hz2 hm => ?_, fun j hj hz => ?_⟩
  · rcases hlt j hj hz with c | c
    · rw [va_up_ne ma _ (show j ≠ k by omega), va_up_ne _ _ (h4 j c hz), va_up_ne _ _ (hne j c hz)]
      exact h2 j c hz
    · subst c
      rw [va_up_self, va_up_ne _ _ hqm, va_up_self, he]
  · rcases hlt j hj hz with c | c <;> rcases hlt j2 hj2 hz2 with c2 | c2
    · rw [va_up_ne ma _ (show j ≠ k by omega), va_up_ne ma _ (show j2 ≠ k by omega)] at hm
      exact h3 j j2 c c2 hz hz2 hm
    · subst c2
      rw [va_up_ne ma _ (show j ≠ j2 by omega), va_up_self] at hm
      exact absurd hm (hne j c hz)
    · subst c
      rw [va_up_ne ma _ (show j2 ≠ j by omega), va_up_self] at hm
      exact absurd hm.symm (hne j2 c2 hz2)
    · omega
  · rcases hlt j hj hz with c | c
    · rw [va_up_ne ma _ (show j ≠ k by omega)]; exact h4 j c hz
    · subst c; rw [va_up_self]; exact hqm
theorem zIn.thr {g : zG} {T : zT} {mo : Nat} {ma : Nat → Nat} {i : Nat} (h : zIn g T mo ma i) : zIn g (va_up T mo (some (.inl (zo 2 ((zFi ma i).set 0 (.int 0)))))) mo ma i := by
  obtain ⟨h1, h2, h3, h4⟩ := h
  have he : (zFi ma i).set 0 (.int 0) = zFi ma i := by
    refine List.ext_getElem (by simp) (fun j h1 h2 => ?_)
    rw [List.getElem_set]
    by_cases c : 0 = j
    · subst c
      rw [if_pos rfl]
      simp [zFi, zma]
    · rw [if_neg c]
  refine ⟨by rw [va_up_self, he], fun k hk hz => ?_, h3, h4⟩
  rw [va_up_ne _ _ (h4 k hk hz)]
  exact h2 k hk hz
theorem zIn.done {g : zG} {T : zT} {mo : Nat} {ma : Nat → Nat} (h : zIn g T mo ma 33) : zMo g mo ma (fun _ _ => 0) T := by
  obtain ⟨h1, h2, h3, -⟩ := h
  have hb : ∀ k, zma k = true → k < 33 := fun k hk => by have := of_decide_eq_true hk; omega
  exact ⟨h1, fun k hk => h2 k (hb k hk) hk, fun j k hj hk => h3 j k (hb j hj) (hb k hk) hj hk⟩
theorem zn_X3_init : zN yX3_init 0 := by decide +kernel
set_option maxHeartbeats 4000000 in
theorem ct_X3_init (l : Launch) (g : zG) (A : Nat → Prop) (mo : Nat) (T : zT) (hT0 : T mo = some (.inl (zo 2 (zFi (fun _ => 0) 0)))) : Met l yX3_init (ws_ yX3_init cX3_init 1 none) (zR 2 29 9194) (zP [.ref mo] g A (zTH g A T)) (va_Qv (fun (_ : Nat → Nat) => True) (fun (ma : Nat → Nat) t => zMX g A mo ma (fun _ _ => 0) t.heap) A) 29 9194 A := by
  refine zb_met (by decide) (Nat.le_of_ble_eq_true rfl) ?_
  intro p e s m args below meth c ls hx hb hr hml hown hts hlocks hnm hK hT ha hl
  have hown : s.vm.findClass RX3 = some m.cls := hown
  have hS : va_S A s.heap s.heap [] := va_S.rf
  have hl : lv_has ls 1 [(0, .ref mo)] := hl
  have hin : zIn g T mo (fun _ => 0) 0 := ⟨hT0, fun k h => absurd h (Nat.not_lt_zero _), fun j k h => absurd h (Nat.not_lt_zero _), fun k h => absurd h (Nat.not_lt_zero _)⟩
  refine lv_aload_n hx hb dX3_init_0 rfl (lv_at hl 0 rfl) ?_
  refine W.objInit hx hb hown (hts _ q1020) (hts _ q72) (hts _ q73) rfl (by rw [hml]; exact hl.1) rfl dX3_init_1 (Nat.le_of_ble_eq_true rfl) (Nat.le_of_ble_eq_true rfl) ?_
  refine W.eq (g2 := F0 m 4 ls []) rfl ?_
  refine lv_aload_n hx hb dX3_init_4 rfl (lv_at hl 0 rfl) ?_
  refine lv_bipush (v := 60) hx hb dX3_init_5 (by decide) ?_
  refine zm_topi (y := nI 60) rfl ?_
  refine zt_newI hx hb (hts _ q208) hK.1 hT hS (n := 60) (by decide) (Nat.le_of_ble_eq_true rfl) (Nat.le_of_ble_eq_true rfl) dX3_init_7 (fun q H hq hT hS => ?_)
  refine zt_putF hx hb hts in_X3 tyX3 tyX3_ok nmX3 hown hK.1 hT hS (fs := zFi (fun _ => 0) 0) (by rw [va_up_ne _ _ (fun z => by rw [← z, hin.1] at hq; cases hq)]; exact hin.1) (C := RX3) (T0 := TX3) (N := 33) (ci := 2) rfl 2 (by decide) (hts _ q1023) (fun _ h => h) rfl hnm rfl (ty := .array .int) (v := .ref q) (tyX3_ok 2 (by decide)) rfl rfl (by simp [zFi]) dX3_init_9 (fun H locs hT hS => ?_)
  have hin := hin.step (k := 2) (e := zI g 60 (fun _ => 0)) hq (by decide) (by decide) (by decide) (by intro j h1 h2; rcases (show j = 0 ∨ j = 1 by omega) with rfl | rfl <;> rfl) rfl
  generalize va_up (fun _ => 0) 2 q = m1 at hin
  generalize va_up _ mo _ = T at hin hT
  refine lv_aload_n hx hb dX3_init_12 rfl (lv_at hl 0 rfl) ?_
  refine lv_bipush (v := 60) hx hb dX3_init_13 (by decide) ?_
  refine zm_topi (y := nI 60) rfl ?_
  refine zt_newI hx hb (hts _ q208) hK.1 hT hS (n := 60) (by decide) (Nat.le_of_ble_eq_true rfl) (Nat.le_of_ble_eq_true rfl) dX3_init_15 (fun q H hq hT hS => ?_)
  refine zt_putF hx hb hts in_X3 tyX3 tyX3_ok nmX3 hown hK.1 hT hS (fs := zFi m1 3) (by rw [va_up_ne _ _ (fun z => by rw [← z, hin.1] at hq; cases hq)]; exact hin.1) (C := RX3) (T0 := TX3) (N := 33) (ci := 2) rfl 3 (by decide) (hts _ q1024) (fun _ h => h) rfl hnm rfl (ty := .array .int) (v := .ref q) (tyX3_ok 3 (by decide)) rfl rfl (by simp [zFi]) dX3_init_17 (fun H locs hT hS => ?_)
  have hin := hin.step (k := 3) (e := zI g 60 (fun _ => 0)) hq (by decide) (by decide) (by decide) (by intro j h1 h2; omega) rfl
  generalize va_up m1 3 q = m2 at hin
  generalize va_up _ mo _ = T at hin hT
  refine lv_aload_n hx hb dX3_init_20 rfl (lv_at hl 0 rfl) ?_
  refine lv_bipush (v := 60) hx hb dX3_init_21 (by decide) ?_
  refine zm_topi (y := nI 60) rfl ?_
  refine zt_newI hx hb (hts _ q208) hK.1 hT hS (n := 60) (by decide) (Nat.le_of_ble_eq_true rfl) (Nat.le_of_ble_eq_true rfl) dX3_init_23 (fun q H hq hT hS => ?_)
  refine zt_putF hx hb hts in_X3 tyX3 tyX3_ok nmX3 hown hK.1 hT hS (fs := zFi m2 4) (by rw [va_up_ne _ _ (fun z => by rw [← z, hin.1] at hq; cases hq)]; exact hin.1) (C := RX3) (T0 := TX3) (N := 33) (ci := 2) rfl 4 (by decide) (hts _ q1025) (fun _ h => h) rfl hnm rfl (ty := .array .int) (v := .ref q) (tyX3_ok 4 (by decide)) rfl rfl (by simp [zFi]) dX3_init_25 (fun H locs hT hS => ?_)
  have hin := hin.step (k := 4) (e := zI g 60 (fun _ => 0)) hq (by decide) (by decide) (by decide) (by intro j h1 h2; omega) rfl
  generalize va_up m2 4 q = m3 at hin
  generalize va_up _ mo _ = T at hin hT
  refine lv_aload_n hx hb dX3_init_28 rfl (lv_at hl 0 rfl) ?_
  refine lv_bipush (v := 60) hx hb dX3_init_29 (by decide) ?_
  refine zm_topi (y := nI 60) rfl ?_
  refine zt_newI hx hb (hts _ q208) hK.1 hT hS (n := 60) (by decide) (Nat.le_of_ble_eq_true rfl) (Nat.le_of_ble_eq_true rfl) dX3_init_31 (fun q H hq hT hS => ?_)
  refine zt_putF hx hb hts in_X3 tyX3 tyX3_ok nmX3 hown hK.1 hT hS (fs := zFi m3 5) (by rw [va_up_ne _ _ (fun z => by rw [← z, hin.1] at hq; cases hq)]; exact hin.1) (C := RX3) (T0 := TX3) (N := 33) (ci := 2) rfl 5 (by decide) (hts _ q1026) (fun _ h => h) rfl hnm rfl (ty := .array .int) (v := .ref q) (tyX3_ok 5 (by decide)) rfl rfl (by simp [zFi]) dX3_init_33 (fun H locs hT hS => ?_)
  have hin := hin.step (k := 5) (e := zI g 60 (fun _ => 0)) hq (by decide) (by decide) (by decide) (by intro j h1 h2; omega) rfl
  generalize va_up m3 5 q = m4 at hin
  generalize va_up _ mo _ = T at hin hT
  refine lv_aload_n hx hb dX3_init_36 rfl (lv_at hl 0 rfl) ?_
  refine lv_bipush (v := 60) hx hb dX3_init_37 (by decide) ?_
  refine zm_topi (y := nI 60) rfl ?_
  refine zt_newI hx hb (hts _ q208) hK.1 hT hS (n := 60) (by decide) (Nat.le_of_ble_eq_true rfl) (Nat.le_of_ble_eq_true rfl) dX3_init_39 (fun q H hq hT hS => ?_)
  refine zt_putF hx hb hts in_X3 tyX3 tyX3_ok nmX3 hown hK.1 hT hS (fs := zFi m4 6) (by rw [va_up_ne _ _ (fun z => by rw [← z, hin.1] at hq; cases hq)]; exact hin.1) (C := RX3) (T0 := TX3) (N := 33) (ci := 2) rfl 6 (by decide) (hts _ q1027) (fun _ h => h) rfl hnm rfl (ty := .array .int) (v := .ref q) (tyX3_ok 6 (by decide)) rfl rfl (by simp [zFi]) dX3_init_41 (fun H locs hT hS => ?_)
  have hin := hin.step (k := 6) (e := zI g 60 (fun _ => 0)) hq (by decide) (by decide) (by decide) (by intro j h1 h2; omega) rfl
  generalize va_up m4 6 q = m5 at hin
  generalize va_up _ mo _ = T at hin hT
  refine lv_aload_n hx hb dX3_init_44 rfl (lv_at hl 0 rfl) ?_
  refine lv_bipush (v := 60) hx hb dX3_init_45 (by decide) ?_
  refine zm_topi (y := nI 60) rfl ?_
  refine zt_newI hx hb (hts _ q208) hK.1 hT hS (n := 60) (by decide) (Nat.le_of_ble_eq_true rfl) (Nat.le_of_ble_eq_true rfl) dX3_init_47 (fun q H hq hT hS => ?_)
  refine zt_putF hx hb hts in_X3 tyX3 tyX3_ok nmX3 hown hK.1 hT hS (fs := zFi m5 7) (by rw [va_up_ne _ _ (fun z => by rw [← z, hin.1] at hq; cases hq)]; exact hin.1) (C := RX3) (T0 := TX3) (N := 33) (ci := 2) rfl 7 (by decide) (hts _ q1028) (fun _ h => h) rfl hnm rfl (ty := .array .int) (v := .ref q) (tyX3_ok 7 (by decide)) rfl rfl (by simp [zFi]) dX3_init_49 (fun H locs hT hS => ?_)
  have hin := hin.step (k := 7) (e := zI g 60 (fun _ => 0)) hq (by decide) (by decide) (by decide) (by intro j h1 h2; omega) rfl
  generalize va_up m5 7 q = m6 at hin
  generalize va_up _ mo _ = T at hin hT
  refine lv_aload_n hx hb dX3_init_52 rfl (lv_at hl 0 rfl) ?_
  refine lv_bipush (v := 60) hx hb dX3_init_53 (by decide) ?_
  refine zm_topi (y := nI 60) rfl ?_
  refine zt_newI hx hb (hts _ q208) hK.1 hT hS (n := 60) (by decide) (Nat.le_of_ble_eq_true rfl) (Nat.le_of_ble_eq_true rfl) dX3_init_55 (fun q H hq hT hS => ?_)
  refine zt_putF hx hb hts in_X3 tyX3 tyX3_ok nmX3 hown hK.1 hT hS (fs := zFi m6 8) (by rw [va_up_ne _ _ (fun z => by rw [← z, hin.1] at hq; cases hq)]; exact hin.1) (C := RX3) (T0 := TX3) (N := 33) (ci := 2) rfl 8 (by decide) (hts _ q1029) (fun _ h => h) rfl hnm rfl (ty := .array .int) (v := .ref q) (tyX3_ok 8 (by decide)) rfl rfl (by simp [zFi]) dX3_init_57 (fun H locs hT hS => ?_)
  have hin := hin.step (k := 8) (e := zI g 60 (fun _ => 0)) hq (by decide) (by decide) (by decide) (by intro j h1 h2; omega) rfl
  generalize va_up m6 8 q = m7 at hin
  generalize va_up _ mo _ = T at hin hT
  refine lv_aload_n hx hb dX3_init_60 rfl (lv_at hl 0 rfl) ?_
  refine lv_bipush (v := 60) hx hb dX3_init_61 (by decide) ?_
  refine zm_topi (y := nI 60) rfl ?_
  refine zt_newZ hx hb (hts _ q1121) hK.1 hT hS (n := 60) (by decide) (Nat.le_of_ble_eq_true rfl) (Nat.le_of_ble_eq_true rfl) dX3_init_63 (fun q H hq hT hS => ?_)
  refine zt_putF hx hb hts in_X3 tyX3 tyX3_ok nmX3 hown hK.1 hT hS (fs := zFi m7 9) (by rw [va_up_ne _ _ (fun z => by rw [← z, hin.1] at hq; cases hq)]; exact hin.1) (C := RX3) (T0 := TX3) (N := 33) (ci := 2) rfl 9 (by decide) (hts _ q1030) (fun _ h => h) rfl hnm rfl (ty := .array .boolean) (v := .ref q) (tyX3_ok 9 (by decide)) rfl rfl (by simp [zFi]) dX3_init_65 (fun H locs hT hS => ?_)
  have hin := hin.step (k := 9) (e := zZ g 60 (fun _ => 0)) hq (by decide) (by decide) (by decide) (by intro j h1 h2; omega) rfl
  generalize va_up m7 9 q = m8 at hin
  generalize va_up _ mo _ = T at hin hT
  refine lv_aload_n hx hb dX3_init_68 rfl (lv_at hl 0 rfl) ?_
  refine lv_bipush (v := 60) hx hb dX3_init_69 (by decide) ?_
  refine zm_topi (y := nI 60) rfl ?_
  refine zt_newZ hx hb (hts _ q1121) hK.1 hT hS (n := 60) (by decide) (Nat.le_of_ble_eq_true rfl) (Nat.le_of_ble_eq_true rfl) dX3_init_71 (fun q H hq hT hS => ?_)
  refine zt_putF hx hb hts in_X3 tyX3 tyX3_ok nmX3 hown hK.1 hT hS (fs := zFi m8 10) (by rw [va_up_ne _ _ (fun z => by rw [← z, hin.1] at hq; cases hq)]; exact hin.1) (C := RX3) (T0 := TX3) (N := 33) (ci := 2) rfl 10 (by decide) (hts _ q1031) (fun _ h => h) rfl hnm rfl (ty := .array .boolean) (v := .ref q) (tyX3_ok 10 (by decide)) rfl rfl (by simp [zFi]) dX3_init_73 (fun H locs hT hS => ?_)
  have hin := hin.step (k := 10) (e := zZ g 60 (fun _ => 0)) hq (by decide) (by decide) (by decide) (by intro j h1 h2; omega) rfl
  generalize va_up m8 10 q = m9 at hin
  generalize va_up _ mo _ = T at hin hT
  refine lv_aload_n hx hb dX3_init_76 rfl (lv_at hl 0 rfl) ?_
  refine lv_bipush (v := 60) hx hb dX3_init_77 (by decide) ?_
  refine zm_topi (y := nI 60) rfl ?_
  refine zt_newZ hx hb (hts _ q1121) hK.1 hT hS (n := 60) (by decide) (Nat.le_of_ble_eq_true rfl) (Nat.le_of_ble_eq_true rfl) dX3_init_79 (fun q H hq hT hS => ?_)
  refine zt_putF hx hb hts in_X3 tyX3 tyX3_ok nmX3 hown hK.1 hT hS (fs := zFi m9 11) (by rw [va_up_ne _ _ (fun z => by rw [← z, hin.1] at hq; cases hq)]; exact hin.1) (C := RX3) (T0 := TX3) (N := 33) (ci := 2) rfl 11 (by decide) (hts _ q1032) (fun _ h => h) rfl hnm rfl (ty := .array .boolean) (v := .ref q) (tyX3_ok 11 (by decide)) rfl rfl (by simp [zFi]) dX3_init_81 (fun H locs hT hS => ?_)
  have hin := hin.step (k := 11) (e := zZ g 60 (fun _ => 0)) hq (by decide) (by decide) (by decide) (by intro j h1 h2; omega) rfl
  generalize va_up m9 11 q = m10 at hin
  generalize va_up _ mo _ = T at hin hT
  refine lv_aload_n hx hb dX3_init_84 rfl (lv_at hl 0 rfl) ?_
  refine lv_bipush (v := 60) hx hb dX3_init_85 (by decide) ?_
  refine zm_topi (y := nI 60) rfl ?_
  refine zt_newZ hx hb (hts _ q1121) hK.1 hT hS (n := 60) (by decide) (Nat.le_of_ble_eq_true rfl) (Nat.le_of_ble_eq_true rfl) dX3_init_87 (fun q H hq hT hS => ?_)
  refine zt_putF hx hb hts in_X3 tyX3 tyX3_ok nmX3 hown hK.1 hT hS (fs := zFi m10 12) (by rw [va_up_ne _ _ (fun z => by rw [← z, hin.1] at hq; cases hq)]; exact hin.1) (C := RX3) (T0 := TX3) (N := 33) (ci := 2) rfl 12 (by decide) (hts _ q1033) (fun _ h => h) rfl hnm rfl (ty := .array .boolean) (v := .ref q) (tyX3_ok 12 (by decide)) rfl rfl (by simp [zFi]) dX3_init_89 (fun H locs hT hS => ?_)
  have hin := hin.step (k := 12) (e := zZ g 60 (fun _ => 0)) hq (by decide) (by decide) (by decide) (by intro j h1 h2; omega) rfl
  generalize va_up m10 12 q = m11 at hin
  generalize va_up _ mo _ = T at hin hT
  refine lv_aload_n hx hb dX3_init_92 rfl (lv_at hl 0 rfl) ?_
  refine lv_bipush (v := 60) hx hb dX3_init_93 (by decide) ?_
  refine zm_topi (y := nI 60) rfl ?_
  refine zt_newI hx hb (hts _ q208) hK.1 hT hS (n := 60) (by decide) (Nat.le_of_ble_eq_true rfl) (Nat.le_of_ble_eq_true rfl) dX3_init_95 (fun q H hq hT hS => ?_)
  refine zt_putF hx hb hts in_X3 tyX3 tyX3_ok nmX3 hown hK.1 hT hS (fs := zFi m11 13) (by rw [va_up_ne _ _ (fun z => by rw [← z, hin.1] at hq; cases hq)]; exact hin.1) (C := RX3) (T0 := TX3) (N := 33) (ci := 2) rfl 13 (by decide) (hts _ q1034) (fun _ h => h) rfl hnm rfl (ty := .array .int) (v := .ref q) (tyX3_ok 13 (by decide)) rfl rfl (by simp [zFi]) dX3_init_97 (fun H locs hT hS => ?_)
  have hin := hin.step (k := 13) (e := zI g 60 (fun _ => 0)) hq (by decide) (by decide) (by decide) (by intro j h1 h2; omega) rfl
  generalize va_up m11 13 q = m12 at hin
  generalize va_up _ mo _ = T at hin hT
  refine lv_aload_n hx hb dX3_init_100 rfl (lv_at hl 0 rfl) ?_
  refine lv_bipush (v := 60) hx hb dX3_init_101 (by decide) ?_
  refine zm_topi (y := nI 60) rfl ?_
  refine zt_newI hx hb (hts _ q208) hK.1 hT hS (n := 60) (by decide) (Nat.le_of_ble_eq_true rfl) (Nat.le_of_ble_eq_true rfl) dX3_init_103 (fun q H hq hT hS => ?_)
  refine zt_putF hx hb hts in_X3 tyX3 tyX3_ok nmX3 hown hK.1 hT hS (fs := zFi m12 14) (by rw [va_up_ne _ _ (fun z => by rw [← z, hin.1] at hq; cases hq)]; exact hin.1) (C := RX3) (T0 := TX3) (N := 33) (ci := 2) rfl 14 (by decide) (hts _ q1035) (fun _ h => h) rfl hnm rfl (ty := .array .int) (v := .ref q) (tyX3_ok 14 (by decide)) rfl rfl (by simp [zFi]) dX3_init_105 (fun H locs hT hS => ?_)
  have hin := hin.step (k := 14) (e := zI g 60 (fun _ => 0)) hq (by decide) (by decide) (by decide) (by intro j h1 h2; omega) rfl
  generalize va_up m12 14 q = m13 at hin
  generalize va_up _ mo _ = T at hin hT
  refine lv_aload_n hx hb dX3_init_108 rfl (lv_at hl 0 rfl) ?_
  refine lv_bipush (v := 60) hx hb dX3_init_109 (by decide) ?_
  refine zm_topi (y := nI 60) rfl ?_
  refine zt_newI hx hb (hts _ q208) hK.1 hT hS (n := 60) (by decide) (Nat.le_of_ble_eq_true rfl) (Nat.le_of_ble_eq_true rfl) dX3_init_111 (fun q H hq hT hS => ?_)
  refine zt_putF hx hb hts in_X3 tyX3 tyX3_ok nmX3 hown hK.1 hT hS (fs := zFi m13 15) (by rw [va_up_ne _ _ (fun z => by rw [← z, hin.1] at hq; cases hq)]; exact hin.1) (C := RX3) (T0 := TX3) (N := 33) (ci := 2) rfl 15 (by decide) (hts _ q1036) (fun _ h => h) rfl hnm rfl (ty := .array .int) (v := .ref q) (tyX3_ok 15 (by decide)) rfl rfl (by simp [zFi]) dX3_init_113 (fun H locs hT hS => ?_)
  have hin := hin.step (k := 15) (e := zI g 60 (fun _ => 0)) hq (by decide) (by decide) (by decide) (by intro j h1 h2; omega) rfl
  generalize va_up m13 15 q = m14 at hin
  generalize va_up _ mo _ = T at hin hT
  refine lv_aload_n hx hb dX3_init_116 rfl (lv_at hl 0 rfl) ?_
  refine lv_bipush (v := 60) hx hb dX3_init_117 (by decide) ?_
  refine zm_topi (y := nI 60) rfl ?_
  refine zt_newI hx hb (hts _ q208) hK.1 hT hS (n := 60) (by decide) (Nat.le_of_ble_eq_true rfl) (Nat.le_of_ble_eq_true rfl) dX3_init_119 (fun q H hq hT hS => ?_)
  refine zt_putF hx hb hts in_X3 tyX3 tyX3_ok nmX3 hown hK.1 hT hS (fs := zFi m14 16) (by rw [va_up_ne _ _ (fun z => by rw [← z, hin.1] at hq; cases hq)]; exact hin.1) (C := RX3) (T0 := TX3) (N := 33) (ci := 2) rfl 16 (by decide) (hts _ q1037) (fun _ h => h) rfl hnm rfl (ty := .array .int) (v := .ref q) (tyX3_ok 16 (by decide)) rfl rfl (by simp [zFi]) dX3_init_121 (fun H locs hT hS => ?_)
  have hin := hin.step (k := 16) (e := zI g 60 (fun _ => 0)) hq (by decide) (by decide) (by decide) (by intro j h1 h2; omega) rfl
  generalize va_up m14 16 q = m15 at hin
  generalize va_up _ mo _ = T at hin hT
  refine lv_aload_n hx hb dX3_init_124 rfl (lv_at hl 0 rfl) ?_
  refine lv_bipush (v := 60) hx hb dX3_init_125 (by decide) ?_
  refine zm_topi (y := nI 60) rfl ?_
  refine zt_newZ hx hb (hts _ q1121) hK.1 hT hS (n := 60) (by decide) (Nat.le_of_ble_eq_true rfl) (Nat.le_of_ble_eq_true rfl) dX3_init_127 (fun q H hq hT hS => ?_)
  refine zt_putF hx hb hts in_X3 tyX3 tyX3_ok nmX3 hown hK.1 hT hS (fs := zFi m15 17) (by rw [va_up_ne _ _ (fun z => by rw [← z, hin.1] at hq; cases hq)]; exact hin.1) (C := RX3) (T0 := TX3) (N := 33) (ci := 2) rfl 17 (by decide) (hts _ q1038) (fun _ h => h) rfl hnm rfl (ty := .array .boolean) (v := .ref q) (tyX3_ok 17 (by decide)) rfl rfl (by simp [zFi]) dX3_init_129 (fun H locs hT hS => ?_)
  have hin := hin.step (k := 17) (e := zZ g 60 (fun _ => 0)) hq (by decide) (by decide) (by decide) (by intro j h1 h2; omega) rfl
  generalize va_up m15 17 q = m16 at hin
  generalize va_up _ mo _ = T at hin hT
  refine lv_aload_n hx hb dX3_init_132 rfl (lv_at hl 0 rfl) ?_
  refine lv_bipush (v := 60) hx hb dX3_init_133 (by decide) ?_
  refine zm_topi (y := nI 60) rfl ?_
  refine zt_newI hx hb (hts _ q208) hK.1 hT hS (n := 60) (by decide) (Nat.le_of_ble_eq_true rfl) (Nat.le_of_ble_eq_true rfl) dX3_init_135 (fun q H hq hT hS => ?_)
  refine zt_putF hx hb hts in_X3 tyX3 tyX3_ok nmX3 hown hK.1 hT hS (fs := zFi m16 18) (by rw [va_up_ne _ _ (fun z => by rw [← z, hin.1] at hq; cases hq)]; exact hin.1) (C := RX3) (T0 := TX3) (N := 33) (ci := 2) rfl 18 (by decide) (hts _ q1039) (fun _ h => h) rfl hnm rfl (ty := .array .int) (v := .ref q) (tyX3_ok 18 (by decide)) rfl rfl (by simp [zFi]) dX3_init_137 (fun H locs hT hS => ?_)
  have hin := hin.step (k := 18) (e := zI g 60 (fun _ => 0)) hq (by decide) (by decide) (by decide) (by intro j h1 h2; omega) rfl
  generalize va_up m16 18 q = m17 at hin
  generalize va_up _ mo _ = T at hin hT
  refine lv_aload_n hx hb dX3_init_140 rfl (lv_at hl 0 rfl) ?_
  refine lv_bipush (v := 60) hx hb dX3_init_141 (by decide) ?_
  refine zm_topi (y := nI 60) rfl ?_
  refine zt_newI hx hb (hts _ q208) hK.1 hT hS (n := 60) (by decide) (Nat.le_of_ble_eq_true rfl) (Nat.le_of_ble_eq_true rfl) dX3_init_143 (fun q H hq hT hS => ?_)
  refine zt_putF hx hb hts in_X3 tyX3 tyX3_ok nmX3 hown hK.1 hT hS (fs := zFi m17 19) (by rw [va_up_ne _ _ (fun z => by rw [← z, hin.1] at hq; cases hq)]; exact hin.1) (C := RX3) (T0 := TX3) (N := 33) (ci := 2) rfl 19 (by decide) (hts _ q1040) (fun _ h => h) rfl hnm rfl (ty := .array .int) (v := .ref q) (tyX3_ok 19 (by decide)) rfl rfl (by simp [zFi]) dX3_init_145 (fun H locs hT hS => ?_)
  have hin := hin.step (k := 19) (e := zI g 60 (fun _ => 0)) hq (by decide) (by decide) (by decide) (by intro j h1 h2; omega) rfl
  generalize va_up m17 19 q = m18 at hin
  generalize va_up _ mo _ = T at hin hT
  refine lv_aload_n hx hb dX3_init_148 rfl (lv_at hl 0 rfl) ?_
  refine lv_iconst (v := 5) hx hb dX3_init_149 (by decide) ?_
  refine zm_topi (y := nI 5) rfl ?_
  refine zt_newI hx hb (hts _ q208) hK.1 hT hS (n := 5) (by decide) (Nat.le_of_ble_eq_true rfl) (Nat.le_of_ble_eq_true rfl) dX3_init_150 (fun q H hq hT hS => ?_)
  refine zt_putF hx hb hts in_X3 tyX3 tyX3_ok nmX3 hown hK.1 hT hS (fs := zFi m18 20) (by rw [va_up_ne _ _ (fun z => by rw [← z, hin.1] at hq; cases hq)]; exact hin.1) (C := RX3) (T0 := TX3) (N := 33) (ci := 2) rfl 20 (by decide) (hts _ q1041) (fun _ h => h) rfl hnm rfl (ty := .array .int) (v := .ref q) (tyX3_ok 20 (by decide)) rfl rfl (by simp [zFi]) dX3_init_152 (fun H locs hT hS => ?_)
  have hin := hin.step (k := 20) (e := zI g 5 (fun _ => 0)) hq (by decide) (by decide) (by decide) (by intro j h1 h2; omega) rfl
  generalize va_up m18 20 q = m19 at hin
  generalize va_up _ mo _ = T at hin hT
  refine lv_aload_n hx hb dX3_init_155 rfl (lv_at hl 0 rfl) ?_
  refine lv_iconst (v := 5) hx hb dX3_init_156 (by decide) ?_
  refine zm_topi (y := nI 5) rfl ?_
  refine zt_newI hx hb (hts _ q208) hK.1 hT hS (n := 5) (by decide) (Nat.le_of_ble_eq_true rfl) (Nat.le_of_ble_eq_true rfl) dX3_init_157 (fun q H hq hT hS => ?_)
  refine zt_putF hx hb hts in_X3 tyX3 tyX3_ok nmX3 hown hK.1 hT hS (fs := zFi m19 21) (by rw [va_up_ne _ _ (fun z => by rw [← z, hin.1] at hq; cases hq)]; exact hin.1) (C := RX3) (T0 := TX3) (N := 33) (ci := 2) rfl 21 (by decide) (hts _ q1042) (fun _ h => h) rfl hnm rfl (ty := .array .int) (v := .ref q) (tyX3_ok 21 (by decide)) rfl rfl (by simp [zFi]) dX3_init_159 (fun H locs hT hS => ?_)
  have hin := hin.step (k := 21) (e := zI g 5 (fun _ => 0)) hq (by decide) (by decide) (by decide) (by intro j h1 h2; omega) rfl
  generalize va_up m19 21 q = m20 at hin
  generalize va_up _ mo _ = T at hin hT
  refine lv_aload_n hx hb dX3_init_162 rfl (lv_at hl 0 rfl) ?_
  refine lv_iconst (v := 5) hx hb dX3_init_163 (by decide) ?_
  refine zm_topi (y := nI 5) rfl ?_
  refine zt_newI hx hb (hts _ q208) hK.1 hT hS (n := 5) (by decide) (Nat.le_of_ble_eq_true rfl) (Nat.le_of_ble_eq_true rfl) dX3_init_164 (fun q H hq hT hS => ?_)
  refine zt_putF hx hb hts in_X3 tyX3 tyX3_ok nmX3 hown hK.1 hT hS (fs := zFi m20 22) (by rw [va_up_ne _ _ (fun z => by rw [← z, hin.1] at hq; cases hq)]; exact hin.1) (C := RX3) (T0 := TX3) (N := 33) (ci := 2) rfl 22 (by decide) (hts _ q1043) (fun _ h => h) rfl hnm rfl (ty := .array .int) (v := .ref q) (tyX3_ok 22 (by decide)) rfl rfl (by simp [zFi]) dX3_init_166 (fun H locs hT hS => ?_)
  have hin := hin.step (k := 22) (e := zI g 5 (fun _ => 0)) hq (by decide) (by decide) (by decide) (by intro j h1 h2; omega) rfl
  generalize va_up m20 22 q = m21 at hin
  generalize va_up _ mo _ = T at hin hT
  refine lv_aload_n hx hb dX3_init_169 rfl (lv_at hl 0 rfl) ?_
  refine lv_sipush (v := 4000) hx hb dX3_init_170 (by decide) ?_
  refine zm_topi (y := nI 4000) rfl ?_
  refine zt_newI hx hb (hts _ q208) hK.1 hT hS (n := 4000) (by decide) (Nat.le_of_ble_eq_true rfl) (Nat.le_of_ble_eq_true rfl) dX3_init_173 (fun q H hq hT hS => ?_)
  refine zt_putF hx hb hts in_X3 tyX3 tyX3_ok nmX3 hown hK.1 hT hS (fs := zFi m21 23) (by rw [va_up_ne _ _ (fun z => by rw [← z, hin.1] at hq; cases hq)]; exact hin.1) (C := RX3) (T0 := TX3) (N := 33) (ci := 2) rfl 24 (by decide) (hts _ q1045) (fun _ h => h) rfl hnm rfl (ty := .array .int) (v := .ref q) (tyX3_ok 24 (by decide)) rfl rfl (by simp [zFi]) dX3_init_175 (fun H locs hT hS => ?_)
  have hin := hin.step (k := 24) (e := zI g 4000 (fun _ => 0)) hq (by decide) (by decide) (by decide) (by intro j h1 h2; rcases (show j = 23 by omega) with rfl; rfl) rfl
  generalize va_up m21 24 q = m22 at hin
  generalize va_up _ mo _ = T at hin hT
  refine lv_aload_n hx hb dX3_init_178 rfl (lv_at hl 0 rfl) ?_
  refine lv_sipush (v := 4000) hx hb dX3_init_179 (by decide) ?_
  refine zm_topi (y := nI 4000) rfl ?_
  refine zt_newI hx hb (hts _ q208) hK.1 hT hS (n := 4000) (by decide) (Nat.le_of_ble_eq_true rfl) (Nat.le_of_ble_eq_true rfl) dX3_init_182 (fun q H hq hT hS => ?_)
  refine zt_putF hx hb hts in_X3 tyX3 tyX3_ok nmX3 hown hK.1 hT hS (fs := zFi m22 25) (by rw [va_up_ne _ _ (fun z => by rw [← z, hin.1] at hq; cases hq)]; exact hin.1) (C := RX3) (T0 := TX3) (N := 33) (ci := 2) rfl 25 (by decide) (hts _ q1046) (fun _ h => h) rfl hnm rfl (ty := .array .int) (v := .ref q) (tyX3_ok 25 (by decide)) rfl rfl (by simp [zFi]) dX3_init_184 (fun H locs hT hS => ?_)
  have hin := hin.step (k := 25) (e := zI g 4000 (fun _ => 0)) hq (by decide) (by decide) (by decide) (by intro j h1 h2; omega) rfl
  generalize va_up m22 25 q = m23 at hin
  generalize va_up _ mo _ = T at hin hT
  refine lv_aload_n hx hb dX3_init_187 rfl (lv_at hl 0 rfl) ?_
  refine lv_bipush (v := 8) hx hb dX3_init_188 (by decide) ?_
  refine zm_topi (y := nI 8) rfl ?_
  refine zt_newI hx hb (hts _ q208) hK.1 hT hS (n := 8) (by decide) (Nat.le_of_ble_eq_true rfl) (Nat.le_of_ble_eq_true rfl) dX3_init_190 (fun q H hq hT hS => ?_)
  refine zt_putF hx hb hts in_X3 tyX3 tyX3_ok nmX3 hown hK.1 hT hS (fs := zFi m23 26) (by rw [va_up_ne _ _ (fun z => by rw [← z, hin.1] at hq; cases hq)]; exact hin.1) (C := RX3) (T0 := TX3) (N := 33) (ci := 2) rfl 27 (by decide) (hts _ q1048) (fun _ h => h) rfl hnm rfl (ty := .array .int) (v := .ref q) (tyX3_ok 27 (by decide)) rfl rfl (by simp [zFi]) dX3_init_192 (fun H locs hT hS => ?_)
  have hin := hin.step (k := 27) (e := zI g 8 (fun _ => 0)) hq (by decide) (by decide) (by decide) (by intro j h1 h2; rcases (show j = 26 by omega) with rfl; rfl) rfl
  generalize va_up m23 27 q = m24 at hin
  generalize va_up _ mo _ = T at hin hT
  refine lv_aload_n hx hb dX3_init_195 rfl (lv_at hl 0 rfl) ?_
  refine lv_bipush (v := 60) hx hb dX3_init_196 (by decide) ?_
  refine zm_topi (y := nI 60) rfl ?_
  refine zt_newI hx hb (hts _ q208) hK.1 hT hS (n := 60) (by decide) (Nat.le_of_ble_eq_true rfl) (Nat.le_of_ble_eq_true rfl) dX3_init_198 (fun q H hq hT hS => ?_)
  refine zt_putF hx hb hts in_X3 tyX3 tyX3_ok nmX3 hown hK.1 hT hS (fs := zFi m24 28) (by rw [va_up_ne _ _ (fun z => by rw [← z, hin.1] at hq; cases hq)]; exact hin.1) (C := RX3) (T0 := TX3) (N := 33) (ci := 2) rfl 28 (by decide) (hts _ q1049) (fun _ h => h) rfl hnm rfl (ty := .array .int) (v := .ref q) (tyX3_ok 28 (by decide)) rfl rfl (by simp [zFi]) dX3_init_200 (fun H locs hT hS => ?_)
  have hin := hin.step (k := 28) (e := zI g 60 (fun _ => 0)) hq (by decide) (by decide) (by decide) (by intro j h1 h2; omega) rfl
  generalize va_up m24 28 q = m25 at hin
  generalize va_up _ mo _ = T at hin hT
  refine lv_aload_n hx hb dX3_init_203 rfl (lv_at hl 0 rfl) ?_
  refine lv_bipush (v := 8) hx hb dX3_init_204 (by decide) ?_
  refine zm_topi (y := nI 8) rfl ?_
  refine zt_newI hx hb (hts _ q208) hK.1 hT hS (n := 8) (by decide) (Nat.le_of_ble_eq_true rfl) (Nat.le_of_ble_eq_true rfl) dX3_init_206 (fun q H hq hT hS => ?_)
  refine zt_putF hx hb hts in_X3 tyX3 tyX3_ok nmX3 hown hK.1 hT hS (fs := zFi m25 29) (by rw [va_up_ne _ _ (fun z => by rw [← z, hin.1] at hq; cases hq)]; exact hin.1) (C := RX3) (T0 := TX3) (N := 33) (ci := 2) rfl 29 (by decide) (hts _ q1050) (fun _ h => h) rfl hnm rfl (ty := .array .int) (v := .ref q) (tyX3_ok 29 (by decide)) rfl rfl (by simp [zFi]) dX3_init_208 (fun H locs hT hS => ?_)
  have hin := hin.step (k := 29) (e := zI g 8 (fun _ => 0)) hq (by decide) (by decide) (by decide) (by intro j h1 h2; omega) rfl
  generalize va_up m25 29 q = m26 at hin
  generalize va_up _ mo _ = T at hin hT
  refine lv_aload_n hx hb dX3_init_211 rfl (lv_at hl 0 rfl) ?_
  refine lv_bipush (v := 8) hx hb dX3_init_212 (by decide) ?_
  refine zm_topi (y := nI 8) rfl ?_
  refine zt_newI hx hb (hts _ q208) hK.1 hT hS (n := 8) (by decide) (Nat.le_of_ble_eq_true rfl) (Nat.le_of_ble_eq_true rfl) dX3_init_214 (fun q H hq hT hS => ?_)
  refine zt_putF hx hb hts in_X3 tyX3 tyX3_ok nmX3 hown hK.1 hT hS (fs := zFi m26 30) (by rw [va_up_ne _ _ (fun z => by rw [← z, hin.1] at hq; cases hq)]; exact hin.1) (C := RX3) (T0 := TX3) (N := 33) (ci := 2) rfl 30 (by decide) (hts _ q1051) (fun _ h => h) rfl hnm rfl (ty := .array .int) (v := .ref q) (tyX3_ok 30 (by decide)) rfl rfl (by simp [zFi]) dX3_init_216 (fun H locs hT hS => ?_)
  have hin := hin.step (k := 30) (e := zI g 8 (fun _ => 0)) hq (by decide) (by decide) (by decide) (by intro j h1 h2; omega) rfl
  generalize va_up m26 30 q = m27 at hin
  generalize va_up _ mo _ = T at hin hT
  refine lv_aload_n hx hb dX3_init_219 rfl (lv_at hl 0 rfl) ?_
  refine lv_iconst (v := 3) hx hb dX3_init_220 (by decide) ?_
  refine zm_topi (y := nI 3) rfl ?_
  refine zt_newI hx hb (hts _ q208) hK.1 hT hS (n := 3) (by decide) (Nat.le_of_ble_eq_true rfl) (Nat.le_of_ble_eq_true rfl) dX3_init_221 (fun q H hq hT hS => ?_)
  refine zt_putF hx hb hts in_X3 tyX3 tyX3_ok nmX3 hown hK.1 hT hS (fs := zFi m27 31) (by rw [va_up_ne _ _ (fun z => by rw [← z, hin.1] at hq; cases hq)]; exact hin.1) (C := RX3) (T0 := TX3) (N := 33) (ci := 2) rfl 31 (by decide) (hts _ q1052) (fun _ h => h) rfl hnm rfl (ty := .array .int) (v := .ref q) (tyX3_ok 31 (by decide)) rfl rfl (by simp [zFi]) dX3_init_223 (fun H locs hT hS => ?_)
  have hin := hin.step (k := 31) (e := zI g 3 (fun _ => 0)) hq (by decide) (by decide) (by decide) (by intro j h1 h2; omega) rfl
  generalize va_up m27 31 q = m28 at hin
  generalize va_up _ mo _ = T at hin hT
  refine lv_aload_n hx hb dX3_init_226 rfl (lv_at hl 0 rfl) ?_
  refine lv_bipush (v := 12) hx hb dX3_init_227 (by decide) ?_
  refine zm_topi (y := nI 12) rfl ?_
  refine zt_newI hx hb (hts _ q208) hK.1 hT hS (n := 12) (by decide) (Nat.le_of_ble_eq_true rfl) (Nat.le_of_ble_eq_true rfl) dX3_init_229 (fun q H hq hT hS => ?_)
  refine zt_putF hx hb hts in_X3 tyX3 tyX3_ok nmX3 hown hK.1 hT hS (fs := zFi m28 32) (by rw [va_up_ne _ _ (fun z => by rw [← z, hin.1] at hq; cases hq)]; exact hin.1) (C := RX3) (T0 := TX3) (N := 33) (ci := 2) rfl 32 (by decide) (hts _ q1053) (fun _ h => h) rfl hnm rfl (ty := .array .int) (v := .ref q) (tyX3_ok 32 (by decide)) rfl rfl (by simp [zFi]) dX3_init_231 (fun H locs hT hS => ?_)
  have hin := hin.step (k := 32) (e := zI g 12 (fun _ => 0)) hq (by decide) (by decide) (by decide) (by intro j h1 h2; omega) rfl
  generalize va_up m28 32 q = m29 at hin
  generalize va_up _ mo _ = T at hin hT
  refine lv_aload_n hx hb dX3_init_234 rfl (lv_at hl 0 rfl) ?_
  refine lv_iconst (v := 0) hx hb dX3_init_235 (by decide) ?_
  refine zt_put hx hb hts in_X3 tyX3 tyX3_ok nmX3 hown hK.1 hT hS (fs := zFi m29 33) hin.1 (C := RX3) (T0 := TX3) (N := 33) (ci := 2) rfl 0 (by decide) (hts _ q1021) (fun _ h => h) rfl (ty := .int) (v := .int 0) (tyX3_ok 0 (by decide)) rfl rfl (by simp [zFi]) dX3_init_236 (fun H locs hT hS => ?_)
  have hin := hin.thr
  generalize va_up _ mo _ = T at hin hT
  exact ze_v hx hb hr hlocks hS dX3_init_239 (Nat.le_of_ble_eq_true rfl) (Nat.le_of_ble_eq_true rfl) m29 trivial ⟨_, hT, hin.done⟩
