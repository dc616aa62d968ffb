/-! THE LOOP, THE BODY -/
theorem zlen5 {L : Nat} (h : L ≤ 320) : (Int32.ofNat L - 5).toInt = (L : Int) - 5 := by
  have h1 : (Int32.ofNat L).toInt = (L : Int) := nI_toInt (by omega)
  rw [Int32.toInt_sub, h1, show (5 : Int32).toInt = 5 from by decide, Int.bmod_eq_of_le (by omega) (by omega)]
theorem zinc5 (t : Nat) : nI (5 * t) + Int32.ofInt 5 = nI (5 * (t + 1)) := by
  rw [show Int32.ofInt 5 = nI 5 from by decide, nI_add]
  exact congrArg nI (by omega)
set_option maxHeartbeats 4000000 in
theorem law_loop {p : Program} {l : Launch} {e : Env} {s : State} {m : MethodId} {below : List Frame} {meth : Method} {c : Code} {b L : Nat} {xs : Nat → Int32} {g : zG} {xo mo oa : Nat} {ma : Nat → Nat} (C0 : zFx p l s m c b L xs g) (hr : meth.sig.returnType = ret) (hlocks : meth.locks = false) : ∀ n t : Nat, 64 < t + n → t ≤ 64 → ∀ (S : zS) (X : zX) (f : Nat → Int64) (H : Heap) (locs : List Loc) (ls : Array Slot), zIv t S X → zLw g (fun q : Nat => s.heap.size ≤ q) xo mo oa ma S X X f H → va_S (fun q : Nat => s.heap.size ≤ q) s.heap H locs → lv_has ls 7 [(4, .int (nI (5 * t))), (0, .ref b), (1, .ref xo), (2, .ref mo), (3, .ref oa)] → W p l e room_1 s m #[Value.ref b] below meth c H locs (1000 + 100 * t) (20000 + 2000 * t) (lw_Z below #[Value.ref b] s) (F0 m 23 ls []) := by
  obtain ⟨hL, hl0, hx, hb, hml, hown, hts, hX, hbl, hK⟩ := id C0
  have hbA : ¬ (fun q : Nat => s.heap.size ≤ q) b := Nat.not_le.mpr hbl
  intro n
  induction n with
  | zero => intro t h1 h2; omega
  | succ n ih =>
    intro t h1 h2 S X f H locs ls hI hw hS hl
    refine lv_iload hx hb dL_law_23 (lv_at hl 0 rfl) ?_
    refine lv_aload_n hx hb dL_law_25 rfl (lv_at hl 1 rfl) ?_
    refine va_slen hx hb hX hbl hbA hS dL_law_26 ?_
    refine lv_iconst (v := 5) hx hb dL_law_27 (by decide) ?_
    refine lv_isub hx hb dL_law_28 ?_
    refine lv_icmp_gt (tgt := 2019) hx hb dL_law_29 (by decide) (fun cz => ?_) (fun cz => ?_)
    · refine lv_iconst (v := 1) hx hb dL_law_2019 (by decide) ?_
      refine va_forget (fun q hq => hS.2.2 q hq) ?_
      refine W.widen (k := 1200384) (n := 5488298) (by omega) (by omega) ?_
      exact lw_ret hx hb hr hlocks dL_law_2020
    · have ht : 5 * t + 5 ≤ L := by
        have z := Int32.le_iff_toInt_le.mp (Int32.not_lt.mp cz)
        rw [zlen5 hL, nI_toInt (show 5 * t < 2 ^ 31 by omega)] at z
        omega
      have K : zKt p l e s m below meth c b g xo mo oa ma t (1000 + 100 * t + 100) (20000 + 2000 * t + 2000) (lw_Z below #[Value.ref b] s) := fun S1 X1 f1 H1 locs1 ls1 hI1 hw1 hS1 hl1 => by
        refine lv_iinc (v := nI (5 * (t + 1))) (lv' := [(4, .int (nI (5 * (t + 1)))), (0, .ref b), (1, .ref xo), (2, .ref mo), (3, .ref oa)]) hx hb dL_law_2013 hl1 (k := 0) rfl (zinc5 t) (by decide) rfl (fun ls2 hl2 => ?_)
        refine lv_goto (tgt := 23) hx hb dL_law_2016 (by decide) ?_
        refine W.widen (k := 1000 + 100 * (t + 1)) (n := 20000 + 2000 * (t + 1)) (by omega) (by omega) ?_
        exact ih (t + 1) (by omega) (by omega) S1 X1 f1 H1 locs1 ls2 hI1 hw1 hS1 hl2
      refine lv_aload_n hx hb dL_law_32 rfl (lv_at hl 1 rfl) ?_
      refine lv_iload hx hb dL_law_33 (lv_at hl 0 rfl) ?_
      refine va_sld hx hb hX hbl hbA hS (vp_in_nI (n := 5 * t) (N := L) (by omega) (by omega)) dL_law_35 ?_
      refine lv_bipush (v := 31) hx hb dL_law_36 (by decide) ?_
      refine lv_iand hx hb dL_law_38 ?_
      obtain ⟨k, hk, ek⟩ := pk_andE (xs (nI (5 * t)).toNatClampNeg) (m := 31) 5 (by decide)
      refine zm_topi ek ?_
      have hk32 : k = 0 ∨ k = 1 ∨ k = 2 ∨ k = 3 ∨ k = 4 ∨ k = 5 ∨ k = 6 ∨ k = 7 ∨ k = 8 ∨ k = 9 ∨ k = 10 ∨ k = 11 ∨ k = 12 ∨ k = 13 ∨ k = 14 ∨ k = 15 ∨ k = 16 ∨ k = 17 ∨ k = 18 ∨ k = 19 ∨ k = 20 ∨ k = 21 ∨ k = 22 ∨ k = 23 ∨ k = 24 ∨ k = 25 ∨ k = 26 ∨ k = 27 ∨ k = 28 ∨ k = 29 ∨ k = 30 ∨ k = 31 := by omega
      rcases hk32 with rfl | rfl | rfl | rfl | rfl | rfl | rfl | rfl | rfl | rfl | rfl | rfl | rfl | rfl | rfl | rfl | rfl | rfl | rfl | rfl | rfl | rfl | rfl | rfl | rfl | rfl | rfl | rfl | rfl | rfl | rfl | rfl
      · refine lv_tableIn (off := 137) (tgt := 176) hx hb dL_law_39 (by decide) (by decide) (by decide) (by decide) ?_
        exact cs_0 C0 ht hI (by omega) (by omega) hw hS hl K
      · refine lv_tableIn (off := 217) (tgt := 256) hx hb dL_law_39 (by decide) (by decide) (by decide) (by decide) ?_
        exact cs_1 C0 ht hI (by omega) (by omega) hw hS hl K
      · refine lv_tableIn (off := 309) (tgt := 348) hx hb dL_law_39 (by decide) (by decide) (by decide) (by decide) ?_
        exact cs_2 C0 ht hI (by omega) (by omega) hw hS hl K
      · refine lv_tableIn (off := 377) (tgt := 416) hx hb dL_law_39 (by decide) (by decide) (by decide) (by decide) ?_
        exact cs_3 C0 ht hI (by omega) (by omega) hw hS hl K
      · refine lv_tableIn (off := 433) (tgt := 472) hx hb dL_law_39 (by decide) (by decide) (by decide) (by decide) ?_
        exact cs_4 C0 ht hI (by omega) (by omega) hw hS hl K
      · refine lv_tableIn (off := 469) (tgt := 508) hx hb dL_law_39 (by decide) (by decide) (by decide) (by decide) ?_
        exact cs_5 C0 ht hI (by omega) (by omega) hw hS hl K
      · refine lv_tableIn (off := 549) (tgt := 588) hx hb dL_law_39 (by decide) (by decide) (by decide) (by decide) ?_
        exact cs_6 C0 ht hI (by omega) (by omega) hw hS hl K
      · refine lv_tableIn (off := 605) (tgt := 644) hx hb dL_law_39 (by decide) (by decide) (by decide) (by decide) ?_
        exact cs_7 C0 ht hI (by omega) (by omega) hw hS hl K
      · refine lv_tableIn (off := 673) (tgt := 712) hx hb dL_law_39 (by decide) (by decide) (by decide) (by decide) ?_
        exact cs_8 C0 ht hI (by omega) (by omega) hw hS hl K
      · refine lv_tableIn (off := 729) (tgt := 768) hx hb dL_law_39 (by decide) (by decide) (by decide) (by decide) ?_
        exact cs_9 C0 ht hI (by omega) (by omega) hw hS hl K
      · refine lv_tableIn (off := 777) (tgt := 816) hx hb dL_law_39 (by decide) (by decide) (by decide) (by decide) ?_
        exact cs_10 C0 ht hI (by omega) (by omega) hw hS hl K
      · refine lv_tableIn (off := 845) (tgt := 884) hx hb dL_law_39 (by decide) (by decide) (by decide) (by decide) ?_
        exact cs_11 C0 ht hI (by omega) (by omega) hw hS hl K
      · refine lv_tableIn (off := 929) (tgt := 968) hx hb dL_law_39 (by decide) (by decide) (by decide) (by decide) ?_
        exact cs_12 C0 ht hI (by omega) (by omega) hw hS hl K
      · refine lv_tableIn (off := 985) (tgt := 1024) hx hb dL_law_39 (by decide) (by decide) (by decide) (by decide) ?_
        exact cs_13 C0 ht hI (by omega) (by omega) hw hS hl K
      · refine lv_tableIn (off := 1041) (tgt := 1080) hx hb dL_law_39 (by decide) (by decide) (by decide) (by decide) ?_
        exact cs_14 C0 ht hI (by omega) (by omega) hw hS hl K
      · refine lv_tableIn (off := 1097) (tgt := 1136) hx hb dL_law_39 (by decide) (by decide) (by decide) (by decide) ?_
        exact cs_15 C0 ht hI (by omega) (by omega) hw hS hl K
      · refine lv_tableIn (off := 1165) (tgt := 1204) hx hb dL_law_39 (by decide) (by decide) (by decide) (by decide) ?_
        exact cs_16 C0 ht hI (by omega) (by omega) hw hS hl K
      · refine lv_tableIn (off := 1209) (tgt := 1248) hx hb dL_law_39 (by decide) (by decide) (by decide) (by decide) ?_
        exact cs_17 C0 ht hI (by omega) (by omega) hw hS hl K
      · refine lv_tableIn (off := 1253) (tgt := 1292) hx hb dL_law_39 (by decide) (by decide) (by decide) (by decide) ?_
        exact cs_18 C0 ht hI (by omega) (by omega) hw hS hl K
      · refine lv_tableIn (off := 1309) (tgt := 1348) hx hb dL_law_39 (by decide) (by decide) (by decide) (by decide) ?_
        exact cs_19 C0 ht hI (by omega) (by omega) hw hS hl K
      · refine lv_tableIn (off := 1365) (tgt := 1404) hx hb dL_law_39 (by decide) (by decide) (by decide) (by decide) ?_
        exact cs_20 C0 ht hI (by omega) (by omega) hw hS hl K
      · refine lv_tableIn (off := 1433) (tgt := 1472) hx hb dL_law_39 (by decide) (by decide) (by decide) (by decide) ?_
        exact cs_21 C0 ht hI (by omega) (by omega) hw hS hl K
      · refine lv_tableIn (off := 1501) (tgt := 1540) hx hb dL_law_39 (by decide) (by decide) (by decide) (by decide) ?_
        exact cs_22 C0 ht hI (by omega) (by omega) hw hS hl K
      · refine lv_tableIn (off := 1557) (tgt := 1596) hx hb dL_law_39 (by decide) (by decide) (by decide) (by decide) ?_
        exact cs_23 C0 ht hI (by omega) (by omega) hw hS hl K
      · refine lv_tableIn (off := 1625) (tgt := 1664) hx hb dL_law_39 (by decide) (by decide) (by decide) (by decide) ?_
        exact cs_24 C0 ht hI (by omega) (by omega) hw hS hl K
      · refine lv_tableIn (off := 1705) (tgt := 1744) hx hb dL_law_39 (by decide) (by decide) (by decide) (by decide) ?_
        exact cs_25 C0 ht hI (by omega) (by omega) hw hS hl K
      · refine lv_tableIn (off := 1761) (tgt := 1800) hx hb dL_law_39 (by decide) (by decide) (by decide) (by decide) ?_
        exact cs_26 C0 ht hI (by omega) (by omega) hw hS hl K
      · refine lv_tableIn (off := 1817) (tgt := 1856) hx hb dL_law_39 (by decide) (by decide) (by decide) (by decide) ?_
        exact cs_27 C0 ht hI (by omega) (by omega) hw hS hl K
      · refine lv_tableIn (off := 1880) (tgt := 1919) hx hb dL_law_39 (by decide) (by decide) (by decide) (by decide) ?_
        exact cs_28 C0 ht hI (by omega) (by omega) hw hS hl K
      · refine lv_tableIn (off := 1893) (tgt := 1932) hx hb dL_law_39 (by decide) (by decide) (by decide) (by decide) ?_
        exact cs_29 C0 ht hI (by omega) (by omega) hw hS hl K
      · refine lv_tableIn (off := 1906) (tgt := 1945) hx hb dL_law_39 (by decide) (by decide) (by decide) (by decide) ?_
        exact cs_30 C0 ht hI (by omega) (by omega) hw hS hl K
      · refine lv_tableOut (tgt := 2013) hx hb dL_law_39 (by decide) (by decide) ?_
        refine W.widen (k := 1000 + 100 * t + 100) (n := 20000 + 2000 * t + 2000) (by omega) (by omega) ?_
        exact K S X f H locs ls (hI.hid (Nat.le_succ t) (fun _ _ _ _ => rfl) rfl rfl rfl rfl rfl) hw hS hl
set_option maxHeartbeats 4000000 in
theorem whole_start {p : Program} {e : Env} {s : State} {m : MethodId} {below : List Frame} {meth : Method} {c : Code} (l : Launch) (hflags : l.flags = flags0) {b L : Nat} {xs : Nat → Int32} (hL : L ≤ 320) (C0 : lw_At p s m meth c b L xs) : W p l e room_1 s m #[Value.ref b] below meth c s.heap [] 0 0 (lw_Z below #[Value.ref b] s) (entryFrame m ([Value.ref b] : List Value).toArray 7) := by
  obtain ⟨hx, hb, hr, hml, hown, hts0, hX, hbl, hlocks, hgv⟩ := C0
  have hl0 : l.stackTraces = false := by unfold Launch.stackTraces; rw [hflags]; decide +kernel
  have hts : ∀ w ∈ lw_all, w.before #[Value.ref b] s = true := fun w h => hts0 w (lw_all_tbl h)
  have hown : s.vm.findClass RX0 = some m.cls := hown
  obtain ⟨g, hK, hE⟩ := law_K hts0 hgv
  have hd0 : ¬ (fun q : Nat => s.heap.size ≤ q) (zd0 g) := Nat.not_le.mpr hE.lt
  have hS : va_S (fun q : Nat => s.heap.size ≤ q) s.heap s.heap [] := va_S.rf
  have hT : zTH g (fun q : Nat => s.heap.size ≤ q) (fun _ => none) s.heap := zTH.empty hE (fun _ h => h) hd0
  have hl := lv_entry ([.ref b]) (n := 7) (Nat.le_of_ble_eq_true rfl)
  rw [lg_entry_eq]
  generalize (lg_sl ([.ref b]) ++ List.replicate (7 - (lg_sl ([.ref b])).length) Slot.unset).toArray = ls at hl ⊢
  have hl : lv_has ls 7 [(0, .ref b)] := hl
  refine zt_new hx hb hts in_X1 tyX1 tyX1_ok hown (hts _ q66) (hts _ q67) (hts _ q39) hK.1 hT hS (ci := 0) rfl (fs := [.null, .null, .null, .null, .null, .null, .null, .null, .null, .int 0]) (by decide) (by show _ + 1 ≤ 1200384; omega) (by show _ + 10 ≤ 5488298; omega) dL_law_0 (fun q1 H hq1 hT hS => ?_)
  refine lv_dup hx hb dL_law_3 rfl ?_
  refine zl_ini (As := []) (rest := [.ref q1]) ⟨hx, hb, hml, hown, hts⟩ (ct_X1_init l g (fun q : Nat => s.heap.size ≤ q) (va_up (fun _ => none) q1 (some (.inl (zo 0 [.null, .null, .null, .null, .null, .null, .null, .null, .null, .int 0])))) q1 (va_up_self _ _ _)) zn_X1_init q70 q39 q68 q69 rfl (Nat.le_of_ble_eq_true rfl) (Nat.le_of_ble_eq_true rfl) hK (fun _ h => h) hS hT rfl hl.1 (Nat.le_of_ble_eq_true rfl) dL_law_4 ⟨by show _ + 16 ≤ 1200384; omega, by show _ + 533 ≤ 5488298; omega⟩ (fun u H locs hp hT _ _ hS => ?_)
  obtain ⟨hu0, hY⟩ := hp
  refine lv_astore_n (lv' := [(1, .ref q1), (0, .ref b)]) hx hb dL_law_7 rfl hl (by decide) rfl (fun ls hl => ?_)
  refine va_forget (fun q hq => hS.2.2 q hq) ?_
  have hS0 : va_S (fun q : Nat => s.heap.size ≤ q) s.heap H [] := ⟨hS.1, hS.2.1, fun q h => absurd h List.not_mem_nil⟩
  have hdH : ¬ (fun q : Nat => H.size ≤ q) (zd0 g) := Nat.not_le.mpr hT.e0.lt
  have hTm : zTH g (fun q : Nat => H.size ≤ q) (fun _ => none) H := zTH.empty hT.e0 (fun _ h => h) hdH
  have hS1 : va_S (fun q : Nat => H.size ≤ q) H H [] := va_S.rf
  refine zt_new hx hb hts in_X3 tyX3 tyX3_ok hown (hts _ q1015) (hts _ q1016) (hts _ q48) hK.1 hTm hS1 (ci := 2) rfl (fs := zFi (fun _ => 0) 0) (by decide +kernel) (by show _ + 1 ≤ 1200384; omega) (by show _ + 33 ≤ 5488298; omega) dL_law_8 (fun q2 H2 hq2 hTm hS2 => ?_)
  have hS3 : va_S (fun q : Nat => s.heap.size ≤ q) s.heap H2 [] := hS0.grow hS2.1 (fun q hq => hS2.2.1 q hq (Nat.not_le.mpr hq))
  have hAm : ∀ q : Nat, H.size ≤ q → s.heap.size ≤ q := fun q h => Nat.le_trans hS0.1 h
  refine lv_dup hx hb dL_law_11 rfl ?_
  refine zl_ini (As := []) (rest := [.ref q2]) ⟨hx, hb, hml, hown, hts⟩ (ct_X3_init l g (fun q : Nat => H.size ≤ q) q2 (va_up (fun _ => none) q2 (some (.inl (zo 2 (zFi (fun _ => 0) 0))))) (va_up_self _ _ _)) zn_X3_init q1019 q48 q1017 q1018 rfl (Nat.le_of_ble_eq_true rfl) (Nat.le_of_ble_eq_true rfl) hK hAm hS3 hTm rfl hl.1 (Nat.le_of_ble_eq_true rfl) dL_law_12 ⟨by show _ + 29 ≤ 1200384; omega, by show _ + 9194 ≤ 5488298; omega⟩ (fun ma H3 locs3 _ hM hz3 hk3 hS4 => ?_)
  refine lv_astore_n (lv' := [(2, .ref q2), (1, .ref q1), (0, .ref b)]) hx hb dL_law_15 rfl hl (by decide) rfl (fun ls hl => ?_)
  -- the system: cut from what the reference has
  have hz13 : H.size ≤ H3.size := Nat.le_trans hS2.1 hz3
  have hk13 : ∀ q : Nat, q < H.size → ¬ (fun q : Nat => H.size ≤ q) q → H3[q]? = H[q]? := fun q h1 h2 => (hk3 q (Nat.lt_of_lt_of_le h1 hS2.1) h2).trans (hS2.2.1 q h1 h2)
  have hTs := hT.cut hz13 hk13 (fun q h1 h2 => absurd h2 (Nat.not_le.mpr h1))
  have hdj : ∀ q : Nat, q < H3.size → (s.heap.size ≤ q ∧ (q < H.size ∨ H3.size ≤ q)) → ¬ H.size ≤ q := fun q h1 h2 h3 => by omega
  refine va_forget (fun q hq => hS4.2.2 q hq) ?_
  have hS5 : va_S (fun q : Nat => s.heap.size ≤ q) s.heap H3 [] := ⟨hS4.1, hS4.2.1, fun q h => absurd h List.not_mem_nil⟩
  have hS6 : va_S (fun q : Nat => s.heap.size ≤ q ∧ (q < H.size ∨ H3.size ≤ q)) H3 H3 [] := va_S.rf
  refine lv_iconst (v := 1) hx hb dL_law_16 (by decide) ?_
  refine zt_newJ hx hb (hts _ q1350) hK.1 hTs hS6 (n := 1) (by decide) (by show _ + 1 ≤ 1200384; omega) (by show _ + 1 ≤ 5488298; omega) dL_law_17 (fun oa H4 hoa hT4 hS7 => ?_)
  have hS8 : va_S (fun q : Nat => s.heap.size ≤ q) s.heap H4 [] := ⟨Nat.le_trans hS5.1 hS7.1, fun q h1 h2 => (hS7.2.1 q (Nat.lt_of_lt_of_le h1 hS5.1) (fun z => h2 z.1)).trans (hS5.2.1 q h1 h2), fun q h => absurd h List.not_mem_nil⟩
  refine lv_astore_n (lv' := [(3, .ref oa), (2, .ref q2), (1, .ref q1), (0, .ref b)]) hx hb dL_law_19 rfl hl (by decide) rfl (fun ls hl => ?_)
  refine lv_iconst (v := 0) hx hb dL_law_20 (by decide) ?_
  refine zm_topi (y := nI (5 * 0)) (by decide) ?_
  refine lv_istore (lv' := [(4, .int (nI (5 * 0))), (3, .ref oa), (2, .ref q2), (1, .ref q1), (0, .ref b)]) hx hb dL_law_21 hl (by decide) rfl (fun ls hl => ?_)
  have hw : zLw g (fun q : Nat => s.heap.size ≤ q) q1 q2 oa ma (zS0 u.2) (fun _ _ => 0) (fun _ _ => 0) (fun _ => 0) H4 := zLw.sys hTs hM (fun q h => h.1) hAm hdj hT4 hoa hY hu0 hS7.1 (fun q h1 h2 => hS7.2.1 q h1 h2)
  refine W.widen (k := 1000 + 100 * 0) (n := 20000 + 2000 * 0) (by omega) (by omega) ?_
  exact law_loop ⟨hL, hl0, hx, hb, hml, hown, hts, hX, hbl, hK⟩ hr hlocks 65 0 (by omega) (by omega) _ _ _ _ _ _ (zIv.start u.2) hw hS8 (lv_sub hl [0, 4, 3, 2, 1] rfl)
