set_option maxHeartbeats 4000000 in
theorem cs_15 {p : Program} {l : Launch} {e : Env} {s : State} {m : MethodId} {below : List Frame} {meth : Method} {c : Code} {Q : State → Prop} {b L : Nat} {xs : Nat → Int32} {g : zG} {xo mo oa : Nat} {ma : Nat → Nat} (C0 : zFx p l s m c b L xs g) {t : Nat} (ht : 5 * t + 5 ≤ L) {S : zS} {X : zX} (hI : zIv t S X) {f : Nat → Int64} {H : Heap} {locs : List Loc} {cells slots : Nat} (hcells : cells + 100 ≤ 1200384) (hslots : slots + 2000 ≤ 5488298) (hw : zLw g (fun q : Nat => s.heap.size ≤ q) xo mo oa ma S X X f H) (hS : va_S (fun q : Nat => s.heap.size ≤ q) s.heap H locs) {ls : Array Slot} (hl : lv_has ls 7 [(4, .int (nI (5 * t))), (0, .ref b), (1, .ref xo), (2, .ref mo), (3, .ref oa)]) (K : zKt p l e s m below meth c b g xo mo oa ma t (cells + 100) (slots + 2000) Q) : W p l e room_1 s m #[Value.ref b] below meth c H locs cells slots Q (F0 m 1136 ls []) := by
  obtain ⟨hL, hl0, hx, hb, hml, hown, hts, hX, hbl, hK⟩ := C0
  have hbA : ¬ (fun q : Nat => s.heap.size ≤ q) b := Nat.not_le.mpr hbl
  obtain ⟨T, As, Am, hT, hoa, hY, hA0, hM, hAs, hAm, hdj⟩ := hw
  subst hA0
  have ht99 : t ≤ 99 := by omega
  refine lv_aload_n hx hb dL_law_1136 rfl (lv_at hl 2 rfl) ?_
  refine lv_aload_n hx hb dL_law_1137 rfl (lv_at hl 1 rfl) ?_
  refine lv_iload hx hb dL_law_1138 (lv_at hl 0 rfl) ?_
  refine lv_iconst (v := 1) hx hb dL_law_1140 (by decide) ?_
  refine lv_iadd hx hb dL_law_1141 ?_
  refine zm_topi (y := nI (5 * t + 1)) (nI_add (5 * t) 1) ?_
  refine va_sld hx hb hX hbl hbA hS (vp_in_nI (n := 5 * t + 1) (N := L) (by omega) (by omega)) dL_law_1142 ?_
  refine zm_topi (y := xs (5 * t + 1)) (congrArg xs (nI_clamp (n := 5 * t + 1) (by omega))) ?_
  refine lv_aload_n hx hb dL_law_1143 rfl (lv_at hl 1 rfl) ?_
  refine lv_iload hx hb dL_law_1144 (lv_at hl 0 rfl) ?_
  refine lv_iconst (v := 2) hx hb dL_law_1146 (by decide) ?_
  refine lv_iadd hx hb dL_law_1147 ?_
  refine zm_topi (y := nI (5 * t + 2)) (nI_add (5 * t) 2) ?_
  refine va_sld hx hb hX hbl hbA hS (vp_in_nI (n := 5 * t + 2) (N := L) (by omega) (by omega)) dL_law_1148 ?_
  refine zm_topi (y := xs (5 * t + 2)) (congrArg xs (nI_clamp (n := 5 * t + 2) (by omega))) ?_
  refine lv_aload_n hx hb dL_law_1149 rfl (lv_at hl 4 rfl) ?_
  refine zl_sys (As := [.ref (S.A 0), .int (xs (5 * t + 1)), .int (xs (5 * t + 2)), .ref oa]) (rest := []) ⟨hx, hb, hml, hown, hts⟩ (ct_X0_comes l hl0 g As S X T hY oa f hoa hI.I hI.qu.wo hI.qu.1.2.2 (hI.qu.ws hI.n60) (hI.qu.ht hI.n60) (xs (5 * t + 1)) (xs (5 * t + 2))) zn_X0_comes (lw_SW q882 q883 q38 q884) (Nat.le_of_ble_eq_true rfl) (Nat.le_of_ble_eq_true rfl) hK hAs hS hT rfl hl.1 (Nat.le_of_ble_eq_true rfl) dL_law_1150 ⟨by show _ + 6 ≤ 1200384; omega, by show _ + 190 ≤ 5488298; omega⟩ (fun r u H1 locs1 hp hT1 hz hkk hS1 => ?_)
  obtain ⟨hr, hn1, hp⟩ := hp
  obtain ⟨hI1, hA1, hY1, hv1⟩ := zStep.out (zp_comes hI (xs (5 * t + 1)) (xs (5 * t + 2))) hI hr hp
  have hw := zLw.sys (B := fun q : Nat => s.heap.size ≤ q) hT hM hAs hAm hdj hT1 hn1 hY1 hA1 hz hkk
  obtain ⟨T, As, Am, hT, hoa, hY, hA0, hM, hAs, hAm, hdj⟩ := hw
  have hS := hS1
  refine lv_istore (lv' := [(5, .int r), (4, .int (nI (5 * t))), (0, .ref b), (1, .ref (S.A 0)), (2, .ref mo), (3, .ref oa)]) hx hb dL_law_1153 hl (by decide) rfl (fun ls hl => ?_)
  refine lv_aload_n hx hb dL_law_1155 rfl (lv_at hl 4 rfl) ?_
  refine lv_aload_n hx hb dL_law_1156 rfl (lv_at hl 2 rfl) ?_
  refine lv_iload hx hb dL_law_1157 (lv_at hl 1 rfl) ?_
  refine lv_iconst (v := 1) hx hb dL_law_1159 (by decide) ?_
  refine lv_iadd hx hb dL_law_1160 ?_
  refine zm_topi (y := nI (5 * t + 1)) (nI_add (5 * t) 1) ?_
  refine va_sld hx hb hX hbl hbA hS (vp_in_nI (n := 5 * t + 1) (N := L) (by omega) (by omega)) dL_law_1161 ?_
  refine zm_topi (y := xs (5 * t + 1)) (congrArg xs (nI_clamp (n := 5 * t + 1) (by omega))) ?_
  refine lv_aload_n hx hb dL_law_1162 rfl (lv_at hl 2 rfl) ?_
  refine lv_iload hx hb dL_law_1163 (lv_at hl 1 rfl) ?_
  refine lv_iconst (v := 2) hx hb dL_law_1165 (by decide) ?_
  refine lv_iadd hx hb dL_law_1166 ?_
  refine zm_topi (y := nI (5 * t + 2)) (nI_add (5 * t) 2) ?_
  refine va_sld hx hb hX hbl hbA hS (vp_in_nI (n := 5 * t + 2) (N := L) (by omega) (by omega)) dL_law_1167 ?_
  refine zm_topi (y := xs (5 * t + 2)) (congrArg xs (nI_clamp (n := 5 * t + 2) (by omega))) ?_
  refine zl_mod (As := [.int (xs (5 * t + 1)), .int (xs (5 * t + 2))]) (rest := []) ⟨hx, hb, hml, hown, hts⟩ (ct_X3_comes l g Am mo ma X (xs (5 * t + 1)) (xs (5 * t + 2)) hI.I hI.z12 hI.w26 hI.mq) zn_X3_comes (lw_V q1274 q1275 q1276 q48 q1277) rfl (Nat.le_of_ble_eq_true rfl) (Nat.le_of_ble_eq_true rfl) hK hAm hS hM (zx_recv (hK.narrow hAm) hM) rfl hl.1 (Nat.le_of_ble_eq_true rfl) dL_law_1168 ⟨by show _ + 0 ≤ 1200384; omega, by show _ + 0 ≤ 5488298; omega⟩ (fun r2 u H1 locs1 hp hM1 hz hkk hS1 => ?_)
  subst hp
  have hw := zLw.mod (B := fun q : Nat => s.heap.size ≤ q) hT hoa hY hA0 hM hAs hAm hdj hM1 hz hkk
  obtain ⟨T, As, Am, hT, hoa, hY, hA0, hM, hAs, hAm, hdj⟩ := hw
  have hS := hS1
  refine lv_istore (lv' := [(6, .int ((m_comes X (xs (5 * t + 1)) (xs (5 * t + 2))).1)), (5, .int r), (4, .int (nI (5 * t))), (0, .ref b), (1, .ref (S.A 0)), (2, .ref mo), (3, .ref oa)]) hx hb dL_law_1171 hl (by decide) rfl (fun ls hl => ?_)
  refine lv_aload_n hx hb dL_law_1173 rfl (lv_at hl 5 rfl) ?_
  refine zl_mod (As := []) (rest := []) ⟨hx, hb, hml, hown, hts⟩ (ct_X3_thrown l g Am mo ma (m_comes X (xs (5 * t + 1)) (xs (5 * t + 2))).2) zn_X3_thrown (lw_V q1122 q1123 q1124 q48 q1125) rfl (Nat.le_of_ble_eq_true rfl) (Nat.le_of_ble_eq_true rfl) hK hAm hS hM (zx_recv (hK.narrow hAm) hM) rfl hl.1 (Nat.le_of_ble_eq_true rfl) dL_law_1174 ⟨by show _ + 0 ≤ 1200384; omega, by show _ + 0 ≤ 5488298; omega⟩ (fun r2 u H1 locs1 hp hM1 hz hkk hS1 => ?_)
  subst hp
  have hw := zLw.mod (B := fun q : Nat => s.heap.size ≤ q) hT hoa hY hA0 hM hAs hAm hdj hM1 hz hkk
  obtain ⟨T, As, Am, hT, hoa, hY, hA0, hM, hAs, hAm, hdj⟩ := hw
  have hS := hS1
  have hw : zLw g (fun q : Nat => s.heap.size ≤ q) (S.A 0) mo oa ma _ _ _ _ _ := ⟨T, As, Am, hT, hoa, hY, hA0, hM, hAs, hAm, hdj⟩
  refine lv_iload hx hb dL_law_1177 (lv_at hl 1 rfl) ?_
  refine lv_icmp_eq (tgt := 1184) hx hb dL_law_1179 (by decide) (fun _ => ?_) (fun z => absurd hr.symm z)
  refine lv_iload hx hb dL_law_1184 (lv_at hl 1 rfl) ?_
  refine lv_if_ne (tgt := 1201) hx hb dL_law_1186 (by decide) (fun _ => ?_) (fun c0 => ?_)
  · refine lv_goto (tgt := 2013) hx hb dL_law_1201 (by decide) ?_
    refine W.widen (k := cells + 100) (n := slots + 2000) (by omega) (by omega) ?_
    exact K _ _ _ _ _ _ hI1 hw hS (lv_sub hl [2, 3, 4, 5, 6] rfl)
  · refine lv_aload_n hx hb dL_law_1189 rfl (lv_at hl 6 rfl) ?_
    refine lv_iconst (v := 0) hx hb dL_law_1190 (by decide) ?_
    refine zt_lld (k := 0) hx hb hK.1 hT (va_up_self _ _ _) (by decide) (by decide) dL_law_1191 ?_
    refine lv_iload hx hb dL_law_1192 (lv_at hl 0 rfl) ?_
    refine lv_i2l hx hb dL_law_1194 rfl ?_
    refine W.lcmp hx hb dL_law_1195 ?_
    refine zm_topi (y := 0) (zcmp0 (hv1 c0)) ?_
    refine lv_if_eq (tgt := 1201) hx hb dL_law_1196 (by decide) (fun _ => ?_) (fun z => absurd rfl z)
    refine lv_goto (tgt := 2013) hx hb dL_law_1201 (by decide) ?_
    refine W.widen (k := cells + 100) (n := slots + 2000) (by omega) (by omega) ?_
    exact K _ _ _ _ _ _ hI1 hw hS (lv_sub hl [2, 3, 4, 5, 6] rfl)
set_option maxHeartbeats 4000000 in
theorem cs_16 {p : Program} {l : Launch} {e : Env} {s : State} {m : MethodId} {below : List Frame} {meth : Method} {c : Code} {Q : State → Prop} {b L : Nat} {xs : Nat → Int32} {g : zG} {xo mo oa : Nat} {ma : Nat → Nat} (C0 : zFx p l s m c b L xs g) {t : Nat} (ht : 5 * t + 5 ≤ L) {S : zS} {X : zX} (hI : zIv t S X) {f : Nat → Int64} {H : Heap} {locs : List Loc} {cells slots : Nat} (hcells : cells + 100 ≤ 1200384) (hslots : slots + 2000 ≤ 5488298) (hw : zLw g (fun q : Nat => s.heap.size ≤ q) xo mo oa ma S X X f H) (hS : va_S (fun q : Nat => s.heap.size ≤ q) s.heap H locs) {ls : Array Slot} (hl : lv_has ls 7 [(4, .int (nI (5 * t))), (0, .ref b), (1, .ref xo), (2, .ref mo), (3, .ref oa)]) (K : zKt p l e s m below meth c b g xo mo oa ma t (cells + 100) (slots + 2000) Q) : W p l e room_1 s m #[Value.ref b] below meth c H locs cells slots Q (F0 m 1204 ls []) := by
  obtain ⟨hL, hl0, hx, hb, hml, hown, hts, hX, hbl, hK⟩ := C0
  have hbA : ¬ (fun q : Nat => s.heap.size ≤ q) b := Nat.not_le.mpr hbl
  obtain ⟨T, As, Am, hT, hoa, hY, hA0, hM, hAs, hAm, hdj⟩ := hw
  subst hA0
  have ht99 : t ≤ 99 := by omega
  refine lv_aload_n hx hb dL_law_1204 rfl (lv_at hl 2 rfl) ?_
  refine lv_aload_n hx hb dL_law_1205 rfl (lv_at hl 4 rfl) ?_
  refine zl_sys (As := [.ref (S.A 0), .ref oa]) (rest := []) ⟨hx, hb, hml, hown, hts⟩ (ct_X0_night l hl0 g As S X T hY oa f hoa hI.qu.wo hI.qu.1.2.2 (fun _ => (hI.sr true).1) (fun _ => hI.bf) hI.qu.rl (hI.qu.we hI.n60)) zn_X0_night (lw_SW q907 q908 q38 q909) (Nat.le_of_ble_eq_true rfl) (Nat.le_of_ble_eq_true rfl) hK hAs hS hT rfl hl.1 (Nat.le_of_ble_eq_true rfl) dL_law_1206 ⟨by show _ + 12 ≤ 1200384; omega, by show _ + 1300 ≤ 5488298; omega⟩ (fun r u H1 locs1 hp hT1 hz hkk hS1 => ?_)
  obtain ⟨hr, hn1, hp⟩ := hp
  obtain ⟨hI1, hA1, hY1, hv1⟩ := zStep.out (zp_night hI) hI hr hp
  have hw := zLw.sys (B := fun q : Nat => s.heap.size ≤ q) hT hM hAs hAm hdj hT1 hn1 hY1 hA1 hz hkk
  obtain ⟨T, As, Am, hT, hoa, hY, hA0, hM, hAs, hAm, hdj⟩ := hw
  have hS := hS1
  refine lv_istore (lv' := [(5, .int r), (4, .int (nI (5 * t))), (0, .ref b), (1, .ref (S.A 0)), (2, .ref mo), (3, .ref oa)]) hx hb dL_law_1209 hl (by decide) rfl (fun ls hl => ?_)
  refine lv_aload_n hx hb dL_law_1211 rfl (lv_at hl 4 rfl) ?_
  refine zl_mod (As := []) (rest := []) ⟨hx, hb, hml, hown, hts⟩ (ct_X3_night l g Am mo ma X hI.n60 hI.w26 hI.mq hI.mr hI.bst) zn_X3_night (lw_V q1278 q1279 q1280 q48 q1281) rfl (Nat.le_of_ble_eq_true rfl) (Nat.le_of_ble_eq_true rfl) hK hAm hS hM (zx_recv (hK.narrow hAm) hM) rfl hl.1 (Nat.le_of_ble_eq_true rfl) dL_law_1212 ⟨by show _ + 0 ≤ 1200384; omega, by show _ + 0 ≤ 5488298; omega⟩ (fun r2 u H1 locs1 hp hM1 hz hkk hS1 => ?_)
  subst hp
  have hw := zLw.mod (B := fun q : Nat => s.heap.size ≤ q) hT hoa hY hA0 hM hAs hAm hdj hM1 hz hkk
  obtain ⟨T, As, Am, hT, hoa, hY, hA0, hM, hAs, hAm, hdj⟩ := hw
  have hS := hS1
  refine lv_istore (lv' := [(6, .int ((m_night X).1)), (5, .int r), (4, .int (nI (5 * t))), (0, .ref b), (1, .ref (S.A 0)), (2, .ref mo), (3, .ref oa)]) hx hb dL_law_1215 hl (by decide) rfl (fun ls hl => ?_)
  refine lv_aload_n hx hb dL_law_1217 rfl (lv_at hl 5 rfl) ?_
  refine zl_mod (As := []) (rest := []) ⟨hx, hb, hml, hown, hts⟩ (ct_X3_thrown l g Am mo ma (m_night X).2) zn_X3_thrown (lw_V q1122 q1123 q1124 q48 q1125) rfl (Nat.le_of_ble_eq_true rfl) (Nat.le_of_ble_eq_true rfl) hK hAm hS hM (zx_recv (hK.narrow hAm) hM) rfl hl.1 (Nat.le_of_ble_eq_true rfl) dL_law_1218 ⟨by show _ + 0 ≤ 1200384; omega, by show _ + 0 ≤ 5488298; omega⟩ (fun r2 u H1 locs1 hp hM1 hz hkk hS1 => ?_)
  subst hp
  have hw := zLw.mod (B := fun q : Nat => s.heap.size ≤ q) hT hoa hY hA0 hM hAs hAm hdj hM1 hz hkk
  obtain ⟨T, As, Am, hT, hoa, hY, hA0, hM, hAs, hAm, hdj⟩ := hw
  have hS := hS1
  have hw : zLw g (fun q : Nat => s.heap.size ≤ q) (S.A 0) mo oa ma _ _ _ _ _ := ⟨T, As, Am, hT, hoa, hY, hA0, hM, hAs, hAm, hdj⟩
  refine lv_iload hx hb dL_law_1221 (lv_at hl 1 rfl) ?_
  refine lv_icmp_eq (tgt := 1228) hx hb dL_law_1223 (by decide) (fun _ => ?_) (fun z => absurd hr.symm z)
  refine lv_iload hx hb dL_law_1228 (lv_at hl 1 rfl) ?_
  refine lv_if_ne (tgt := 1245) hx hb dL_law_1230 (by decide) (fun _ => ?_) (fun c0 => ?_)
  · refine lv_goto (tgt := 2013) hx hb dL_law_1245 (by decide) ?_
    refine W.widen (k := cells + 100) (n := slots + 2000) (by omega) (by omega) ?_
    exact K _ _ _ _ _ _ hI1 hw hS (lv_sub hl [2, 3, 4, 5, 6] rfl)
  · refine lv_aload_n hx hb dL_law_1233 rfl (lv_at hl 6 rfl) ?_
    refine lv_iconst (v := 0) hx hb dL_law_1234 (by decide) ?_
    refine zt_lld (k := 0) hx hb hK.1 hT (va_up_self _ _ _) (by decide) (by decide) dL_law_1235 ?_
    refine lv_iload hx hb dL_law_1236 (lv_at hl 0 rfl) ?_
    refine lv_i2l hx hb dL_law_1238 rfl ?_
    refine W.lcmp hx hb dL_law_1239 ?_
    refine zm_topi (y := 0) (zcmp0 (hv1 c0)) ?_
    refine lv_if_eq (tgt := 1245) hx hb dL_law_1240 (by decide) (fun _ => ?_) (fun z => absurd rfl z)
    refine lv_goto (tgt := 2013) hx hb dL_law_1245 (by decide) ?_
    refine W.widen (k := cells + 100) (n := slots + 2000) (by omega) (by omega) ?_
    exact K _ _ _ _ _ _ hI1 hw hS (lv_sub hl [2, 3, 4, 5, 6] rfl)
set_option maxHeartbeats 4000000 in
theorem cs_17 {p : Program} {l : Launch} {e : Env} {s : State} {m : MethodId} {below : List Frame} {meth : Method} {c : Code} {Q : State → Prop} {b L : Nat} {xs : Nat → Int32} {g : zG} {xo mo oa : Nat} {ma : Nat → Nat} (C0 : zFx p l s m c b L xs g) {t : Nat} (ht : 5 * t + 5 ≤ L) {S : zS} {X : zX} (hI : zIv t S X) {f : Nat → Int64} {H : Heap} {locs : List Loc} {cells slots : Nat} (hcells : cells + 100 ≤ 1200384) (hslots : slots + 2000 ≤ 5488298) (hw : zLw g (fun q : Nat => s.heap.size ≤ q) xo mo oa ma S X X f H) (hS : va_S (fun q : Nat => s.heap.size ≤ q) s.heap H locs) {ls : Array Slot} (hl : lv_has ls 7 [(4, .int (nI (5 * t))), (0, .ref b), (1, .ref xo), (2, .ref mo), (3, .ref oa)]) (K : zKt p l e s m below meth c b g xo mo oa ma t (cells + 100) (slots + 2000) Q) : W p l e room_1 s m #[Value.ref b] below meth c H locs cells slots Q (F0 m 1248 ls []) := by
  obtain ⟨hL, hl0, hx, hb, hml, hown, hts, hX, hbl, hK⟩ := C0
  have hbA : ¬ (fun q : Nat => s.heap.size ≤ q) b := Nat.not_le.mpr hbl
  obtain ⟨T, As, Am, hT, hoa, hY, hA0, hM, hAs, hAm, hdj⟩ := hw
  subst hA0
  have ht99 : t ≤ 99 := by omega
  refine lv_aload_n hx hb dL_law_1248 rfl (lv_at hl 2 rfl) ?_
  refine lv_aload_n hx hb dL_law_1249 rfl (lv_at hl 4 rfl) ?_
  refine zl_sys (As := [.ref (S.A 0), .ref oa]) (rest := []) ⟨hx, hb, hml, hown, hts⟩ (ct_X0_out l hl0 g As S X T hY oa f hoa hI.I hI.qu.wo hI.qu.rl hI.qu.re (hI.qu.rt hI.n60) hI.qu.rn) zn_X0_out (lw_SW q918 q919 q38 q920) (Nat.le_of_ble_eq_true rfl) (Nat.le_of_ble_eq_true rfl) hK hAs hS hT rfl hl.1 (Nat.le_of_ble_eq_true rfl) dL_law_1250 ⟨by show _ + 8 ≤ 1200384; omega, by show _ + 40 ≤ 5488298; omega⟩ (fun r u H1 locs1 hp hT1 hz hkk hS1 => ?_)
  obtain ⟨hr, hn1, hp⟩ := hp
  obtain ⟨hI1, hA1, hY1, hv1⟩ := zStep.out (zp_out hI) hI hr hp
  have hw := zLw.sys (B := fun q : Nat => s.heap.size ≤ q) hT hM hAs hAm hdj hT1 hn1 hY1 hA1 hz hkk
  obtain ⟨T, As, Am, hT, hoa, hY, hA0, hM, hAs, hAm, hdj⟩ := hw
  have hS := hS1
  refine lv_istore (lv' := [(5, .int r), (4, .int (nI (5 * t))), (0, .ref b), (1, .ref (S.A 0)), (2, .ref mo), (3, .ref oa)]) hx hb dL_law_1253 hl (by decide) rfl (fun ls hl => ?_)
  refine lv_aload_n hx hb dL_law_1255 rfl (lv_at hl 4 rfl) ?_
  refine zl_mod (As := []) (rest := []) ⟨hx, hb, hml, hown, hts⟩ (ct_X3_out l g Am mo ma X hI.n60 hI.mr) zn_X3_out (lw_V q1290 q1291 q1292 q48 q1293) rfl (Nat.le_of_ble_eq_true rfl) (Nat.le_of_ble_eq_true rfl) hK hAm hS hM (zx_recv (hK.narrow hAm) hM) rfl hl.1 (Nat.le_of_ble_eq_true rfl) dL_law_1256 ⟨by show _ + 0 ≤ 1200384; omega, by show _ + 0 ≤ 5488298; omega⟩ (fun r2 u H1 locs1 hp hM1 hz hkk hS1 => ?_)
  subst hp
  have hw := zLw.mod (B := fun q : Nat => s.heap.size ≤ q) hT hoa hY hA0 hM hAs hAm hdj hM1 hz hkk
  obtain ⟨T, As, Am, hT, hoa, hY, hA0, hM, hAs, hAm, hdj⟩ := hw
  have hS := hS1
  refine lv_istore (lv' := [(6, .int ((m_out X).1)), (5, .int r), (4, .int (nI (5 * t))), (0, .ref b), (1, .ref (S.A 0)), (2, .ref mo), (3, .ref oa)]) hx hb dL_law_1259 hl (by decide) rfl (fun ls hl => ?_)
  refine lv_aload_n hx hb dL_law_1261 rfl (lv_at hl 5 rfl) ?_
  refine zl_mod (As := []) (rest := []) ⟨hx, hb, hml, hown, hts⟩ (ct_X3_thrown l g Am mo ma (m_out X).2) zn_X3_thrown (lw_V q1122 q1123 q1124 q48 q1125) rfl (Nat.le_of_ble_eq_true rfl) (Nat.le_of_ble_eq_true rfl) hK hAm hS hM (zx_recv (hK.narrow hAm) hM) rfl hl.1 (Nat.le_of_ble_eq_true rfl) dL_law_1262 ⟨by show _ + 0 ≤ 1200384; omega, by show _ + 0 ≤ 5488298; omega⟩ (fun r2 u H1 locs1 hp hM1 hz hkk hS1 => ?_)
  subst hp
  have hw := zLw.mod (B := fun q : Nat => s.heap.size ≤ q) hT hoa hY hA0 hM hAs hAm hdj hM1 hz hkk
  obtain ⟨T, As, Am, hT, hoa, hY, hA0, hM, hAs, hAm, hdj⟩ := hw
  have hS := hS1
  have hw : zLw g (fun q : Nat => s.heap.size ≤ q) (S.A 0) mo oa ma _ _ _ _ _ := ⟨T, As, Am, hT, hoa, hY, hA0, hM, hAs, hAm, hdj⟩
  refine lv_iload hx hb dL_law_1265 (lv_at hl 1 rfl) ?_
  refine lv_icmp_eq (tgt := 1272) hx hb dL_law_1267 (by decide) (fun _ => ?_) (fun z => absurd hr.symm z)
  refine lv_iload hx hb dL_law_1272 (lv_at hl 1 rfl) ?_
  refine lv_if_ne (tgt := 1289) hx hb dL_law_1274 (by decide) (fun _ => ?_) (fun c0 => ?_)
  · refine lv_goto (tgt := 2013) hx hb dL_law_1289 (by decide) ?_
    refine W.widen (k := cells + 100) (n := slots + 2000) (by omega) (by omega) ?_
    exact K _ _ _ _ _ _ hI1 hw hS (lv_sub hl [2, 3, 4, 5, 6] rfl)
  · refine lv_aload_n hx hb dL_law_1277 rfl (lv_at hl 6 rfl) ?_
    refine lv_iconst (v := 0) hx hb dL_law_1278 (by decide) ?_
    refine zt_lld (k := 0) hx hb hK.1 hT (va_up_self _ _ _) (by decide) (by decide) dL_law_1279 ?_
    refine lv_iload hx hb dL_law_1280 (lv_at hl 0 rfl) ?_
    refine lv_i2l hx hb dL_law_1282 rfl ?_
    refine W.lcmp hx hb dL_law_1283 ?_
    refine zm_topi (y := 0) (zcmp0 (hv1 c0)) ?_
    refine lv_if_eq (tgt := 1289) hx hb dL_law_1284 (by decide) (fun _ => ?_) (fun z => absurd rfl z)
    refine lv_goto (tgt := 2013) hx hb dL_law_1289 (by decide) ?_
    refine W.widen (k := cells + 100) (n := slots + 2000) (by omega) (by omega) ?_
    exact K _ _ _ _ _ _ hI1 hw hS (lv_sub hl [2, 3, 4, 5, 6] rfl)
set_option maxHeartbeats 4000000 in
theorem cs_18 {p : Program} {l : Launch} {e : Env} {s : State} {m : MethodId} {below : List Frame} {meth : Method} {c : Code} {Q : State → Prop} {b L : Nat} {xs : Nat → Int32} {g : zG} {xo mo oa : Nat} {ma : Nat → Nat} (C0 : zFx p l s m c b L xs g) {t : Nat} (ht : 5 * t + 5 ≤ L) {S : zS} {X : zX} (hI : zIv t S X) {f : Nat → Int64} {H : Heap} {locs : List Loc} {cells slots : Nat} (hcells : cells + 100 ≤ 1200384) (hslots : slots + 2000 ≤ 5488298) (hw : zLw g (fun q : Nat => s.heap.size ≤ q) xo mo oa ma S X X f H) (hS : va_S (fun q : Nat => s.heap.size ≤ q) s.heap H locs) {ls : Array Slot} (hl : lv_has ls 7 [(4, .int (nI (5 * t))), (0, .ref b), (1, .ref xo), (2, .ref mo), (3, .ref oa)]) (K : zKt p l e s m below meth c b g xo mo oa ma t (cells + 100) (slots + 2000) Q) : W p l e room_1 s m #[Value.ref b] below meth c H locs cells slots Q (F0 m 1292 ls []) := by
  obtain ⟨hL, hl0, hx, hb, hml, hown, hts, hX, hbl, hK⟩ := C0
  have hbA : ¬ (fun q : Nat => s.heap.size ≤ q) b := Nat.not_le.mpr hbl
  obtain ⟨T, As, Am, hT, hoa, hY, hA0, hM, hAs, hAm, hdj⟩ := hw
  subst hA0
  have ht99 : t ≤ 99 := by omega
  refine lv_aload_n hx hb dL_law_1292 rfl (lv_at hl 2 rfl) ?_
  refine lv_aload_n hx hb dL_law_1293 rfl (lv_at hl 1 rfl) ?_
  refine lv_iload hx hb dL_law_1294 (lv_at hl 0 rfl) ?_
  refine lv_iconst (v := 1) hx hb dL_law_1296 (by decide) ?_
  refine lv_iadd hx hb dL_law_1297 ?_
  refine zm_topi (y := nI (5 * t + 1)) (nI_add (5 * t) 1) ?_
  refine va_sld hx hb hX hbl hbA hS (vp_in_nI (n := 5 * t + 1) (N := L) (by omega) (by omega)) dL_law_1298 ?_
  refine zm_topi (y := xs (5 * t + 1)) (congrArg xs (nI_clamp (n := 5 * t + 1) (by omega))) ?_
  refine lv_aload_n hx hb dL_law_1299 rfl (lv_at hl 4 rfl) ?_
  refine zl_sys (As := [.ref (S.A 0), .int (xs (5 * t + 1)), .ref oa]) (rest := []) ⟨hx, hb, hml, hown, hts⟩ (ct_X0_host l hl0 g As S X T hY oa f hoa hI.I (xs (5 * t + 1))) zn_X0_host (lw_SW q933 q934 q38 q935) (Nat.le_of_ble_eq_true rfl) (Nat.le_of_ble_eq_true rfl) hK hAs hS hT rfl hl.1 (Nat.le_of_ble_eq_true rfl) dL_law_1300 ⟨by show _ + 1 ≤ 1200384; omega, by show _ + 6 ≤ 5488298; omega⟩ (fun r u H1 locs1 hp hT1 hz hkk hS1 => ?_)
  obtain ⟨hr, hn1, hp⟩ := hp
  obtain ⟨hI1, hA1, hY1, hv1⟩ := zStep.out (zp_host hI (xs (5 * t + 1))) hI hr hp
  have hw := zLw.sys (B := fun q : Nat => s.heap.size ≤ q) hT hM hAs hAm hdj hT1 hn1 hY1 hA1 hz hkk
  obtain ⟨T, As, Am, hT, hoa, hY, hA0, hM, hAs, hAm, hdj⟩ := hw
  have hS := hS1
  refine lv_istore (lv' := [(5, .int r), (4, .int (nI (5 * t))), (0, .ref b), (1, .ref (S.A 0)), (2, .ref mo), (3, .ref oa)]) hx hb dL_law_1303 hl (by decide) rfl (fun ls hl => ?_)
  refine lv_aload_n hx hb dL_law_1305 rfl (lv_at hl 4 rfl) ?_
  refine lv_aload_n hx hb dL_law_1306 rfl (lv_at hl 2 rfl) ?_
  refine lv_iload hx hb dL_law_1307 (lv_at hl 1 rfl) ?_
  refine lv_iconst (v := 1) hx hb dL_law_1309 (by decide) ?_
  refine lv_iadd hx hb dL_law_1310 ?_
  refine zm_topi (y := nI (5 * t + 1)) (nI_add (5 * t) 1) ?_
  refine va_sld hx hb hX hbl hbA hS (vp_in_nI (n := 5 * t + 1) (N := L) (by omega) (by omega)) dL_law_1311 ?_
  refine zm_topi (y := xs (5 * t + 1)) (congrArg xs (nI_clamp (n := 5 * t + 1) (by omega))) ?_
  refine zl_mod (As := [.int (xs (5 * t + 1))]) (rest := []) ⟨hx, hb, hml, hown, hts⟩ (ct_X3_host l g Am mo ma X (xs (5 * t + 1)) hI.I) zn_X3_host (lw_V q1294 q1295 q1296 q48 q1297) rfl (Nat.le_of_ble_eq_true rfl) (Nat.le_of_ble_eq_true rfl) hK hAm hS hM (zx_recv (hK.narrow hAm) hM) rfl hl.1 (Nat.le_of_ble_eq_true rfl) dL_law_1312 ⟨by show _ + 0 ≤ 1200384; omega, by show _ + 0 ≤ 5488298; omega⟩ (fun r2 u H1 locs1 hp hM1 hz hkk hS1 => ?_)
  subst hp
  have hw := zLw.mod (B := fun q : Nat => s.heap.size ≤ q) hT hoa hY hA0 hM hAs hAm hdj hM1 hz hkk
  obtain ⟨T, As, Am, hT, hoa, hY, hA0, hM, hAs, hAm, hdj⟩ := hw
  have hS := hS1
  refine lv_istore (lv' := [(6, .int ((m_host X (xs (5 * t + 1))).1)), (5, .int r), (4, .int (nI (5 * t))), (0, .ref b), (1, .ref (S.A 0)), (2, .ref mo), (3, .ref oa)]) hx hb dL_law_1315 hl (by decide) rfl (fun ls hl => ?_)
  refine lv_aload_n hx hb dL_law_1317 rfl (lv_at hl 5 rfl) ?_
  refine zl_mod (As := []) (rest := []) ⟨hx, hb, hml, hown, hts⟩ (ct_X3_thrown l g Am mo ma (m_host X (xs (5 * t + 1))).2) zn_X3_thrown (lw_V q1122 q1123 q1124 q48 q1125) rfl (Nat.le_of_ble_eq_true rfl) (Nat.le_of_ble_eq_true rfl) hK hAm hS hM (zx_recv (hK.narrow hAm) hM) rfl hl.1 (Nat.le_of_ble_eq_true rfl) dL_law_1318 ⟨by show _ + 0 ≤ 1200384; omega, by show _ + 0 ≤ 5488298; omega⟩ (fun r2 u H1 locs1 hp hM1 hz hkk hS1 => ?_)
  subst hp
  have hw := zLw.mod (B := fun q : Nat => s.heap.size ≤ q) hT hoa hY hA0 hM hAs hAm hdj hM1 hz hkk
  obtain ⟨T, As, Am, hT, hoa, hY, hA0, hM, hAs, hAm, hdj⟩ := hw
  have hS := hS1
  have hw : zLw g (fun q : Nat => s.heap.size ≤ q) (S.A 0) mo oa ma _ _ _ _ _ := ⟨T, As, Am, hT, hoa, hY, hA0, hM, hAs, hAm, hdj⟩
  refine lv_iload hx hb dL_law_1321 (lv_at hl 1 rfl) ?_
  refine lv_icmp_eq (tgt := 1328) hx hb dL_law_1323 (by decide) (fun _ => ?_) (fun z => absurd hr.symm z)
  refine lv_iload hx hb dL_law_1328 (lv_at hl 1 rfl) ?_
  refine lv_if_ne (tgt := 1345) hx hb dL_law_1330 (by decide) (fun _ => ?_) (fun c0 => ?_)
  · refine lv_goto (tgt := 2013) hx hb dL_law_1345 (by decide) ?_
    refine W.widen (k := cells + 100) (n := slots + 2000) (by omega) (by omega) ?_
    exact K _ _ _ _ _ _ hI1 hw hS (lv_sub hl [2, 3, 4, 5, 6] rfl)
  · refine lv_aload_n hx hb dL_law_1333 rfl (lv_at hl 6 rfl) ?_
    refine lv_iconst (v := 0) hx hb dL_law_1334 (by decide) ?_
    refine zt_lld (k := 0) hx hb hK.1 hT (va_up_self _ _ _) (by decide) (by decide) dL_law_1335 ?_
    refine lv_iload hx hb dL_law_1336 (lv_at hl 0 rfl) ?_
    refine lv_i2l hx hb dL_law_1338 rfl ?_
    refine W.lcmp hx hb dL_law_1339 ?_
    refine zm_topi (y := 0) (zcmp0 (hv1 c0)) ?_
    refine lv_if_eq (tgt := 1345) hx hb dL_law_1340 (by decide) (fun _ => ?_) (fun z => absurd rfl z)
    refine lv_goto (tgt := 2013) hx hb dL_law_1345 (by decide) ?_
    refine W.widen (k := cells + 100) (n := slots + 2000) (by omega) (by omega) ?_
    exact K _ _ _ _ _ _ hI1 hw hS (lv_sub hl [2, 3, 4, 5, 6] rfl)
set_option maxHeartbeats 4000000 in
theorem cs_19 {p : Program} {l : Launch} {e : Env} {s : State} {m : MethodId} {below : List Frame} {meth : Method} {c : Code} {Q : State → Prop} {b L : Nat} {xs : Nat → Int32} {g : zG} {xo mo oa : Nat} {ma : Nat → Nat} (C0 : zFx p l s m c b L xs g) {t : Nat} (ht : 5 * t + 5 ≤ L) {S : zS} {X : zX} (hI : zIv t S X) {f : Nat → Int64} {H : Heap} {locs : List Loc} {cells slots : Nat} (hcells : cells + 100 ≤ 1200384) (hslots : slots + 2000 ≤ 5488298) (hw : zLw g (fun q : Nat => s.heap.size ≤ q) xo mo oa ma S X X f H) (hS : va_S (fun q : Nat => s.heap.size ≤ q) s.heap H locs) {ls : Array Slot} (hl : lv_has ls 7 [(4, .int (nI (5 * t))), (0, .ref b), (1, .ref xo), (2, .ref mo), (3, .ref oa)]) (K : zKt p l e s m below meth c b g xo mo oa ma t (cells + 100) (slots + 2000) Q) : W p l e room_1 s m #[Value.ref b] below meth c H locs cells slots Q (F0 m 1348 ls []) := by
  obtain ⟨hL, hl0, hx, hb, hml, hown, hts, hX, hbl, hK⟩ := C0
  have hbA : ¬ (fun q : Nat => s.heap.size ≤ q) b := Nat.not_le.mpr hbl
  obtain ⟨T, As, Am, hT, hoa, hY, hA0, hM, hAs, hAm, hdj⟩ := hw
  subst hA0
  have ht99 : t ≤ 99 := by omega
  refine lv_aload_n hx hb dL_law_1348 rfl (lv_at hl 2 rfl) ?_
  refine lv_aload_n hx hb dL_law_1349 rfl (lv_at hl 1 rfl) ?_
  refine lv_iload hx hb dL_law_1350 (lv_at hl 0 rfl) ?_
  refine lv_iconst (v := 1) hx hb dL_law_1352 (by decide) ?_
  refine lv_iadd hx hb dL_law_1353 ?_
  refine zm_topi (y := nI (5 * t + 1)) (nI_add (5 * t) 1) ?_
  refine va_sld hx hb hX hbl hbA hS (vp_in_nI (n := 5 * t + 1) (N := L) (by omega) (by omega)) dL_law_1354 ?_
  refine zm_topi (y := xs (5 * t + 1)) (congrArg xs (nI_clamp (n := 5 * t + 1) (by omega))) ?_
  refine lv_aload_n hx hb dL_law_1355 rfl (lv_at hl 4 rfl) ?_
  refine zl_sys (As := [.ref (S.A 0), .int (xs (5 * t + 1)), .ref oa]) (rest := []) ⟨hx, hb, hml, hown, hts⟩ (ct_X0_head l hl0 g As S X T hY oa f hoa hI.I (xs (5 * t + 1))) zn_X0_head (lw_SW q943 q944 q38 q945) (Nat.le_of_ble_eq_true rfl) (Nat.le_of_ble_eq_true rfl) hK hAs hS hT rfl hl.1 (Nat.le_of_ble_eq_true rfl) dL_law_1356 ⟨by show _ + 1 ≤ 1200384; omega, by show _ + 6 ≤ 5488298; omega⟩ (fun r u H1 locs1 hp hT1 hz hkk hS1 => ?_)
  obtain ⟨hr, hn1, hp⟩ := hp
  obtain ⟨hI1, hA1, hY1, hv1⟩ := zStep.out (zp_head hI (xs (5 * t + 1))) hI hr hp
  have hw := zLw.sys (B := fun q : Nat => s.heap.size ≤ q) hT hM hAs hAm hdj hT1 hn1 hY1 hA1 hz hkk
  obtain ⟨T, As, Am, hT, hoa, hY, hA0, hM, hAs, hAm, hdj⟩ := hw
  have hS := hS1
  refine lv_istore (lv' := [(5, .int r), (4, .int (nI (5 * t))), (0, .ref b), (1, .ref (S.A 0)), (2, .ref mo), (3, .ref oa)]) hx hb dL_law_1359 hl (by decide) rfl (fun ls hl => ?_)
  refine lv_aload_n hx hb dL_law_1361 rfl (lv_at hl 4 rfl) ?_
  refine lv_aload_n hx hb dL_law_1362 rfl (lv_at hl 2 rfl) ?_
  refine lv_iload hx hb dL_law_1363 (lv_at hl 1 rfl) ?_
  refine lv_iconst (v := 1) hx hb dL_law_1365 (by decide) ?_
  refine lv_iadd hx hb dL_law_1366 ?_
  refine zm_topi (y := nI (5 * t + 1)) (nI_add (5 * t) 1) ?_
  refine va_sld hx hb hX hbl hbA hS (vp_in_nI (n := 5 * t + 1) (N := L) (by omega) (by omega)) dL_law_1367 ?_
  refine zm_topi (y := xs (5 * t + 1)) (congrArg xs (nI_clamp (n := 5 * t + 1) (by omega))) ?_
  refine zl_mod (As := [.int (xs (5 * t + 1))]) (rest := []) ⟨hx, hb, hml, hown, hts⟩ (ct_X3_head l g Am mo ma X (xs (5 * t + 1)) hI.I) zn_X3_head (lw_V q1298 q1299 q1300 q48 q1301) rfl (Nat.le_of_ble_eq_true rfl) (Nat.le_of_ble_eq_true rfl) hK hAm hS hM (zx_recv (hK.narrow hAm) hM) rfl hl.1 (Nat.le_of_ble_eq_true rfl) dL_law_1368 ⟨by show _ + 0 ≤ 1200384; omega, by show _ + 0 ≤ 5488298; omega⟩ (fun r2 u H1 locs1 hp hM1 hz hkk hS1 => ?_)
  subst hp
  have hw := zLw.mod (B := fun q : Nat => s.heap.size ≤ q) hT hoa hY hA0 hM hAs hAm hdj hM1 hz hkk
  obtain ⟨T, As, Am, hT, hoa, hY, hA0, hM, hAs, hAm, hdj⟩ := hw
  have hS := hS1
  refine lv_istore (lv' := [(6, .int ((m_head X (xs (5 * t + 1))).1)), (5, .int r), (4, .int (nI (5 * t))), (0, .ref b), (1, .ref (S.A 0)), (2, .ref mo), (3, .ref oa)]) hx hb dL_law_1371 hl (by decide) rfl (fun ls hl => ?_)
  refine lv_aload_n hx hb dL_law_1373 rfl (lv_at hl 5 rfl) ?_
  refine zl_mod (As := []) (rest := []) ⟨hx, hb, hml, hown, hts⟩ (ct_X3_thrown l g Am mo ma (m_head X (xs (5 * t + 1))).2) zn_X3_thrown (lw_V q1122 q1123 q1124 q48 q1125) rfl (Nat.le_of_ble_eq_true rfl) (Nat.le_of_ble_eq_true rfl) hK hAm hS hM (zx_recv (hK.narrow hAm) hM) rfl hl.1 (Nat.le_of_ble_eq_true rfl) dL_law_1374 ⟨by show _ + 0 ≤ 1200384; omega, by show _ + 0 ≤ 5488298; omega⟩ (fun r2 u H1 locs1 hp hM1 hz hkk hS1 => ?_)
  subst hp
  have hw := zLw.mod (B := fun q : Nat => s.heap.size ≤ q) hT hoa hY hA0 hM hAs hAm hdj hM1 hz hkk
  obtain ⟨T, As, Am, hT, hoa, hY, hA0, hM, hAs, hAm, hdj⟩ := hw
  have hS := hS1
  have hw : zLw g (fun q : Nat => s.heap.size ≤ q) (S.A 0) mo oa ma _ _ _ _ _ := ⟨T, As, Am, hT, hoa, hY, hA0, hM, hAs, hAm, hdj⟩
  refine lv_iload hx hb dL_law_1377 (lv_at hl 1 rfl) ?_
  refine lv_icmp_eq (tgt := 1384) hx hb dL_law_1379 (by decide) (fun _ => ?_) (fun z => absurd hr.symm z)
  refine lv_iload hx hb dL_law_1384 (lv_at hl 1 rfl) ?_
  refine lv_if_ne (tgt := 1401) hx hb dL_law_1386 (by decide) (fun _ => ?_) (fun c0 => ?_)
  · refine lv_goto (tgt := 2013) hx hb dL_law_1401 (by decide) ?_
    refine W.widen (k := cells + 100) (n := slots + 2000) (by omega) (by omega) ?_
    exact K _ _ _ _ _ _ hI1 hw hS (lv_sub hl [2, 3, 4, 5, 6] rfl)
  · refine lv_aload_n hx hb dL_law_1389 rfl (lv_at hl 6 rfl) ?_
    refine lv_iconst (v := 0) hx hb dL_law_1390 (by decide) ?_
    refine zt_lld (k := 0) hx hb hK.1 hT (va_up_self _ _ _) (by decide) (by decide) dL_law_1391 ?_
    refine lv_iload hx hb dL_law_1392 (lv_at hl 0 rfl) ?_
    refine lv_i2l hx hb dL_law_1394 rfl ?_
    refine W.lcmp hx hb dL_law_1395 ?_
    refine zm_topi (y := 0) (zcmp0 (hv1 c0)) ?_
    refine lv_if_eq (tgt := 1401) hx hb dL_law_1396 (by decide) (fun _ => ?_) (fun z => absurd rfl z)
    refine lv_goto (tgt := 2013) hx hb dL_law_1401 (by decide) ?_
    refine W.widen (k := cells + 100) (n := slots + 2000) (by omega) (by omega) ?_
    exact K _ _ _ _ _ _ hI1 hw hS (lv_sub hl [2, 3, 4, 5, 6] rfl)
set_option maxHeartbeats 4000000 in
theorem cs_20 {p : Program} {l : Launch} {e : Env} {s : State} {m : MethodId} {below : List Frame} {meth : Method} {c : Code} {Q : State → Prop} {b L : Nat} {xs : Nat → Int32} {g : zG} {xo mo oa : Nat} {ma : Nat → Nat} (C0 : zFx p l s m c b L xs g) {t : Nat} (ht : 5 * t + 5 ≤ L) {S : zS} {X : zX} (hI : zIv t S X) {f : Nat → Int64} {H : Heap} {locs : List Loc} {cells slots : Nat} (hcells : cells + 100 ≤ 1200384) (hslots : slots + 2000 ≤ 5488298) (hw : zLw g (fun q : Nat => s.heap.size ≤ q) xo mo oa ma S X X f H) (hS : va_S (fun q : Nat => s.heap.size ≤ q) s.heap H locs) {ls : Array Slot} (hl : lv_has ls 7 [(4, .int (nI (5 * t))), (0, .ref b), (1, .ref xo), (2, .ref mo), (3, .ref oa)]) (K : zKt p l e s m below meth c b g xo mo oa ma t (cells + 100) (slots + 2000) Q) : W p l e room_1 s m #[Value.ref b] below meth c H locs cells slots Q (F0 m 1404 ls []) := by
  obtain ⟨hL, hl0, hx, hb, hml, hown, hts, hX, hbl, hK⟩ := C0
  have hbA : ¬ (fun q : Nat => s.heap.size ≤ q) b := Nat.not_le.mpr hbl
  obtain ⟨T, As, Am, hT, hoa, hY, hA0, hM, hAs, hAm, hdj⟩ := hw
  subst hA0
  have ht99 : t ≤ 99 := by omega
  refine lv_aload_n hx hb dL_law_1404 rfl (lv_at hl 2 rfl) ?_
  refine lv_aload_n hx hb dL_law_1405 rfl (lv_at hl 1 rfl) ?_
  refine lv_iload hx hb dL_law_1406 (lv_at hl 0 rfl) ?_
  refine lv_iconst (v := 1) hx hb dL_law_1408 (by decide) ?_
  refine lv_iadd hx hb dL_law_1409 ?_
  refine zm_topi (y := nI (5 * t + 1)) (nI_add (5 * t) 1) ?_
  refine va_sld hx hb hX hbl hbA hS (vp_in_nI (n := 5 * t + 1) (N := L) (by omega) (by omega)) dL_law_1410 ?_
  refine zm_topi (y := xs (5 * t + 1)) (congrArg xs (nI_clamp (n := 5 * t + 1) (by omega))) ?_
  refine lv_aload_n hx hb dL_law_1411 rfl (lv_at hl 1 rfl) ?_
  refine lv_iload hx hb dL_law_1412 (lv_at hl 0 rfl) ?_
  refine lv_iconst (v := 2) hx hb dL_law_1414 (by decide) ?_
  refine lv_iadd hx hb dL_law_1415 ?_
  refine zm_topi (y := nI (5 * t + 2)) (nI_add (5 * t) 2) ?_
  refine va_sld hx hb hX hbl hbA hS (vp_in_nI (n := 5 * t + 2) (N := L) (by omega) (by omega)) dL_law_1416 ?_
  refine zm_topi (y := xs (5 * t + 2)) (congrArg xs (nI_clamp (n := 5 * t + 2) (by omega))) ?_
  refine lv_aload_n hx hb dL_law_1417 rfl (lv_at hl 4 rfl) ?_
  refine zl_sys (As := [.ref (S.A 0), .int (xs (5 * t + 1)), .int (xs (5 * t + 2)), .ref oa]) (rest := []) ⟨hx, hb, hml, hown, hts⟩ (ct_X0_ofPart l hl0 g As S X T hY oa f hoa hI.I hI.tm.mp (xs (5 * t + 1)) (xs (5 * t + 2))) zn_X0_ofPart (lw_SW q950 q951 q38 q952) (Nat.le_of_ble_eq_true rfl) (Nat.le_of_ble_eq_true rfl) hK hAs hS hT rfl hl.1 (Nat.le_of_ble_eq_true rfl) dL_law_1418 ⟨by show _ + 2 ≤ 1200384; omega, by show _ + 12 ≤ 5488298; omega⟩ (fun r u H1 locs1 hp hT1 hz hkk hS1 => ?_)
  obtain ⟨hr, hn1, hp⟩ := hp
  obtain ⟨hI1, hA1, hY1, hv1⟩ := zStep.out (zp_ofPart hI (xs (5 * t + 1)) (xs (5 * t + 2))) hI hr hp
  have hw := zLw.sys (B := fun q : Nat => s.heap.size ≤ q) hT hM hAs hAm hdj hT1 hn1 hY1 hA1 hz hkk
  obtain ⟨T, As, Am, hT, hoa, hY, hA0, hM, hAs, hAm, hdj⟩ := hw
  have hS := hS1
  refine lv_istore (lv' := [(5, .int r), (4, .int (nI (5 * t))), (0, .ref b), (1, .ref (S.A 0)), (2, .ref mo), (3, .ref oa)]) hx hb dL_law_1421 hl (by decide) rfl (fun ls hl => ?_)
  refine lv_aload_n hx hb dL_law_1423 rfl (lv_at hl 4 rfl) ?_
  refine lv_aload_n hx hb dL_law_1424 rfl (lv_at hl 2 rfl) ?_
  refine lv_iload hx hb dL_law_1425 (lv_at hl 1 rfl) ?_
  refine lv_iconst (v := 1) hx hb dL_law_1427 (by decide) ?_
  refine lv_iadd hx hb dL_law_1428 ?_
  refine zm_topi (y := nI (5 * t + 1)) (nI_add (5 * t) 1) ?_
  refine va_sld hx hb hX hbl hbA hS (vp_in_nI (n := 5 * t + 1) (N := L) (by omega) (by omega)) dL_law_1429 ?_
  refine zm_topi (y := xs (5 * t + 1)) (congrArg xs (nI_clamp (n := 5 * t + 1) (by omega))) ?_
  refine lv_aload_n hx hb dL_law_1430 rfl (lv_at hl 2 rfl) ?_
  refine lv_iload hx hb dL_law_1431 (lv_at hl 1 rfl) ?_
  refine lv_iconst (v := 2) hx hb dL_law_1433 (by decide) ?_
  refine lv_iadd hx hb dL_law_1434 ?_
  refine zm_topi (y := nI (5 * t + 2)) (nI_add (5 * t) 2) ?_
  refine va_sld hx hb hX hbl hbA hS (vp_in_nI (n := 5 * t + 2) (N := L) (by omega) (by omega)) dL_law_1435 ?_
  refine zm_topi (y := xs (5 * t + 2)) (congrArg xs (nI_clamp (n := 5 * t + 2) (by omega))) ?_
  refine zl_mod (As := [.int (xs (5 * t + 1)), .int (xs (5 * t + 2))]) (rest := []) ⟨hx, hb, hml, hown, hts⟩ (ct_X3_ofPart l g Am mo ma X (xs (5 * t + 1)) (xs (5 * t + 2)) hI.I (hI.m23 ht99)) zn_X3_ofPart (lw_V q1302 q1303 q1304 q48 q1305) rfl (Nat.le_of_ble_eq_true rfl) (Nat.le_of_ble_eq_true rfl) hK hAm hS hM (zx_recv (hK.narrow hAm) hM) rfl hl.1 (Nat.le_of_ble_eq_true rfl) dL_law_1436 ⟨by show _ + 0 ≤ 1200384; omega, by show _ + 0 ≤ 5488298; omega⟩ (fun r2 u H1 locs1 hp hM1 hz hkk hS1 => ?_)
  subst hp
  have hw := zLw.mod (B := fun q : Nat => s.heap.size ≤ q) hT hoa hY hA0 hM hAs hAm hdj hM1 hz hkk
  obtain ⟨T, As, Am, hT, hoa, hY, hA0, hM, hAs, hAm, hdj⟩ := hw
  have hS := hS1
  refine lv_istore (lv' := [(6, .int ((m_ofPart X (xs (5 * t + 1)) (xs (5 * t + 2))).1)), (5, .int r), (4, .int (nI (5 * t))), (0, .ref b), (1, .ref (S.A 0)), (2, .ref mo), (3, .ref oa)]) hx hb dL_law_1439 hl (by decide) rfl (fun ls hl => ?_)
  refine lv_aload_n hx hb dL_law_1441 rfl (lv_at hl 5 rfl) ?_
  refine zl_mod (As := []) (rest := []) ⟨hx, hb, hml, hown, hts⟩ (ct_X3_thrown l g Am mo ma (m_ofPart X (xs (5 * t + 1)) (xs (5 * t + 2))).2) zn_X3_thrown (lw_V q1122 q1123 q1124 q48 q1125) rfl (Nat.le_of_ble_eq_true rfl) (Nat.le_of_ble_eq_true rfl) hK hAm hS hM (zx_recv (hK.narrow hAm) hM) rfl hl.1 (Nat.le_of_ble_eq_true rfl) dL_law_1442 ⟨by show _ + 0 ≤ 1200384; omega, by show _ + 0 ≤ 5488298; omega⟩ (fun r2 u H1 locs1 hp hM1 hz hkk hS1 => ?_)
  subst hp
  have hw := zLw.mod (B := fun q : Nat => s.heap.size ≤ q) hT hoa hY hA0 hM hAs hAm hdj hM1 hz hkk
  obtain ⟨T, As, Am, hT, hoa, hY, hA0, hM, hAs, hAm, hdj⟩ := hw
  have hS := hS1
  have hw : zLw g (fun q : Nat => s.heap.size ≤ q) (S.A 0) mo oa ma _ _ _ _ _ := ⟨T, As, Am, hT, hoa, hY, hA0, hM, hAs, hAm, hdj⟩
  refine lv_iload hx hb dL_law_1445 (lv_at hl 1 rfl) ?_
  refine lv_icmp_eq (tgt := 1452) hx hb dL_law_1447 (by decide) (fun _ => ?_) (fun z => absurd hr.symm z)
  refine lv_iload hx hb dL_law_1452 (lv_at hl 1 rfl) ?_
  refine lv_if_ne (tgt := 1469) hx hb dL_law_1454 (by decide) (fun _ => ?_) (fun c0 => ?_)
  · refine lv_goto (tgt := 2013) hx hb dL_law_1469 (by decide) ?_
    refine W.widen (k := cells + 100) (n := slots + 2000) (by omega) (by omega) ?_
    exact K _ _ _ _ _ _ hI1 hw hS (lv_sub hl [2, 3, 4, 5, 6] rfl)
  · refine lv_aload_n hx hb dL_law_1457 rfl (lv_at hl 6 rfl) ?_
    refine lv_iconst (v := 0) hx hb dL_law_1458 (by decide) ?_
    refine zt_lld (k := 0) hx hb hK.1 hT (va_up_self _ _ _) (by decide) (by decide) dL_law_1459 ?_
    refine lv_iload hx hb dL_law_1460 (lv_at hl 0 rfl) ?_
    refine lv_i2l hx hb dL_law_1462 rfl ?_
    refine W.lcmp hx hb dL_law_1463 ?_
    refine zm_topi (y := 0) (zcmp0 (hv1 c0)) ?_
    refine lv_if_eq (tgt := 1469) hx hb dL_law_1464 (by decide) (fun _ => ?_) (fun z => absurd rfl z)
    refine lv_goto (tgt := 2013) hx hb dL_law_1469 (by decide) ?_
    refine W.widen (k := cells + 100) (n := slots + 2000) (by omega) (by omega) ?_
    exact K _ _ _ _ _ _ hI1 hw hS (lv_sub hl [2, 3, 4, 5, 6] rfl)
set_option maxHeartbeats 4000000 in
theorem cs_21 {p : Program} {l : Launch} {e : Env} {s : State} {m : MethodId} {below : List Frame} {meth : Method} {c : Code} {Q : State → Prop} {b L : Nat} {xs : Nat → Int32} {g : zG} {xo mo oa : Nat} {ma : Nat → Nat} (C0 : zFx p l s m c b L xs g) {t : Nat} (ht : 5 * t + 5 ≤ L) {S : zS} {X : zX} (hI : zIv t S X) {f : Nat → Int64} {H : Heap} {locs : List Loc} {cells slots : Nat} (hcells : cells + 100 ≤ 1200384) (hslots : slots + 2000 ≤ 5488298) (hw : zLw g (fun q : Nat => s.heap.size ≤ q) xo mo oa ma S X X f H) (hS : va_S (fun q : Nat => s.heap.size ≤ q) s.heap H locs) {ls : Array Slot} (hl : lv_has ls 7 [(4, .int (nI (5 * t))), (0, .ref b), (1, .ref xo), (2, .ref mo), (3, .ref oa)]) (K : zKt p l e s m below meth c b g xo mo oa ma t (cells + 100) (slots + 2000) Q) : W p l e room_1 s m #[Value.ref b] below meth c H locs cells slots Q (F0 m 1472 ls []) := by
  obtain ⟨hL, hl0, hx, hb, hml, hown, hts, hX, hbl, hK⟩ := C0
  have hbA : ¬ (fun q : Nat => s.heap.size ≤ q) b := Nat.not_le.mpr hbl
  obtain ⟨T, As, Am, hT, hoa, hY, hA0, hM, hAs, hAm, hdj⟩ := hw
  subst hA0
  have ht99 : t ≤ 99 := by omega
  refine lv_aload_n hx hb dL_law_1472 rfl (lv_at hl 2 rfl) ?_
  refine lv_aload_n hx hb dL_law_1473 rfl (lv_at hl 1 rfl) ?_
  refine lv_iload hx hb dL_law_1474 (lv_at hl 0 rfl) ?_
  refine lv_iconst (v := 1) hx hb dL_law_1476 (by decide) ?_
  refine lv_iadd hx hb dL_law_1477 ?_
  refine zm_topi (y := nI (5 * t + 1)) (nI_add (5 * t) 1) ?_
  refine va_sld hx hb hX hbl hbA hS (vp_in_nI (n := 5 * t + 1) (N := L) (by omega) (by omega)) dL_law_1478 ?_
  refine zm_topi (y := xs (5 * t + 1)) (congrArg xs (nI_clamp (n := 5 * t + 1) (by omega))) ?_
  refine lv_aload_n hx hb dL_law_1479 rfl (lv_at hl 1 rfl) ?_
  refine lv_iload hx hb dL_law_1480 (lv_at hl 0 rfl) ?_
  refine lv_iconst (v := 2) hx hb dL_law_1482 (by decide) ?_
  refine lv_iadd hx hb dL_law_1483 ?_
  refine zm_topi (y := nI (5 * t + 2)) (nI_add (5 * t) 2) ?_
  refine va_sld hx hb hX hbl hbA hS (vp_in_nI (n := 5 * t + 2) (N := L) (by omega) (by omega)) dL_law_1484 ?_
  refine zm_topi (y := xs (5 * t + 2)) (congrArg xs (nI_clamp (n := 5 * t + 2) (by omega))) ?_
  refine lv_aload_n hx hb dL_law_1485 rfl (lv_at hl 4 rfl) ?_
  refine zl_sys (As := [.ref (S.A 0), .int (xs (5 * t + 1)), .int (xs (5 * t + 2)), .ref oa]) (rest := []) ⟨hx, hb, hml, hown, hts⟩ (ct_X0_trace l hl0 g As S X T hY oa f hoa hI.I (hI.to ht99) hI.tm.mp hI.tm.tr (xs (5 * t + 1)) (xs (5 * t + 2))) zn_X0_trace (lw_SW q957 q958 q38 q959) (Nat.le_of_ble_eq_true rfl) (Nat.le_of_ble_eq_true rfl) hK hAs hS hT rfl hl.1 (Nat.le_of_ble_eq_true rfl) dL_law_1486 ⟨by show _ + 2 ≤ 1200384; omega, by show _ + 12 ≤ 5488298; omega⟩ (fun r u H1 locs1 hp hT1 hz hkk hS1 => ?_)
  obtain ⟨hr, hn1, hp⟩ := hp
  obtain ⟨hI1, hA1, hY1, hv1⟩ := zStep.out (zp_trace hI (xs (5 * t + 1)) (xs (5 * t + 2))) hI hr hp
  have hw := zLw.sys (B := fun q : Nat => s.heap.size ≤ q) hT hM hAs hAm hdj hT1 hn1 hY1 hA1 hz hkk
  obtain ⟨T, As, Am, hT, hoa, hY, hA0, hM, hAs, hAm, hdj⟩ := hw
  have hS := hS1
  refine lv_istore (lv' := [(5, .int r), (4, .int (nI (5 * t))), (0, .ref b), (1, .ref (S.A 0)), (2, .ref mo), (3, .ref oa)]) hx hb dL_law_1489 hl (by decide) rfl (fun ls hl => ?_)
  refine lv_aload_n hx hb dL_law_1491 rfl (lv_at hl 4 rfl) ?_
  refine lv_aload_n hx hb dL_law_1492 rfl (lv_at hl 2 rfl) ?_
  refine lv_iload hx hb dL_law_1493 (lv_at hl 1 rfl) ?_
  refine lv_iconst (v := 1) hx hb dL_law_1495 (by decide) ?_
  refine lv_iadd hx hb dL_law_1496 ?_
  refine zm_topi (y := nI (5 * t + 1)) (nI_add (5 * t) 1) ?_
  refine va_sld hx hb hX hbl hbA hS (vp_in_nI (n := 5 * t + 1) (N := L) (by omega) (by omega)) dL_law_1497 ?_
  refine zm_topi (y := xs (5 * t + 1)) (congrArg xs (nI_clamp (n := 5 * t + 1) (by omega))) ?_
  refine lv_aload_n hx hb dL_law_1498 rfl (lv_at hl 2 rfl) ?_
  refine lv_iload hx hb dL_law_1499 (lv_at hl 1 rfl) ?_
  refine lv_iconst (v := 2) hx hb dL_law_1501 (by decide) ?_
  refine lv_iadd hx hb dL_law_1502 ?_
  refine zm_topi (y := nI (5 * t + 2)) (nI_add (5 * t) 2) ?_
  refine va_sld hx hb hX hbl hbA hS (vp_in_nI (n := 5 * t + 2) (N := L) (by omega) (by omega)) dL_law_1503 ?_
  refine zm_topi (y := xs (5 * t + 2)) (congrArg xs (nI_clamp (n := 5 * t + 2) (by omega))) ?_
  refine zl_mod (As := [.int (xs (5 * t + 1)), .int (xs (5 * t + 2))]) (rest := []) ⟨hx, hb, hml, hown, hts⟩ (ct_X3_trace l g Am mo ma X (xs (5 * t + 1)) (xs (5 * t + 2)) hI.I (hI.m23 ht99)) zn_X3_trace (lw_V q1310 q1311 q1312 q48 q1313) rfl (Nat.le_of_ble_eq_true rfl) (Nat.le_of_ble_eq_true rfl) hK hAm hS hM (zx_recv (hK.narrow hAm) hM) rfl hl.1 (Nat.le_of_ble_eq_true rfl) dL_law_1504 ⟨by show _ + 0 ≤ 1200384; omega, by show _ + 0 ≤ 5488298; omega⟩ (fun r2 u H1 locs1 hp hM1 hz hkk hS1 => ?_)
  subst hp
  have hw := zLw.mod (B := fun q : Nat => s.heap.size ≤ q) hT hoa hY hA0 hM hAs hAm hdj hM1 hz hkk
  obtain ⟨T, As, Am, hT, hoa, hY, hA0, hM, hAs, hAm, hdj⟩ := hw
  have hS := hS1
  refine lv_istore (lv' := [(6, .int ((m_trace X (xs (5 * t + 1)) (xs (5 * t + 2))).1)), (5, .int r), (4, .int (nI (5 * t))), (0, .ref b), (1, .ref (S.A 0)), (2, .ref mo), (3, .ref oa)]) hx hb dL_law_1507 hl (by decide) rfl (fun ls hl => ?_)
  refine lv_aload_n hx hb dL_law_1509 rfl (lv_at hl 5 rfl) ?_
  refine zl_mod (As := []) (rest := []) ⟨hx, hb, hml, hown, hts⟩ (ct_X3_thrown l g Am mo ma (m_trace X (xs (5 * t + 1)) (xs (5 * t + 2))).2) zn_X3_thrown (lw_V q1122 q1123 q1124 q48 q1125) rfl (Nat.le_of_ble_eq_true rfl) (Nat.le_of_ble_eq_true rfl) hK hAm hS hM (zx_recv (hK.narrow hAm) hM) rfl hl.1 (Nat.le_of_ble_eq_true rfl) dL_law_1510 ⟨by show _ + 0 ≤ 1200384; omega, by show _ + 0 ≤ 5488298; omega⟩ (fun r2 u H1 locs1 hp hM1 hz hkk hS1 => ?_)
  subst hp
  have hw := zLw.mod (B := fun q : Nat => s.heap.size ≤ q) hT hoa hY hA0 hM hAs hAm hdj hM1 hz hkk
  obtain ⟨T, As, Am, hT, hoa, hY, hA0, hM, hAs, hAm, hdj⟩ := hw
  have hS := hS1
  have hw : zLw g (fun q : Nat => s.heap.size ≤ q) (S.A 0) mo oa ma _ _ _ _ _ := ⟨T, As, Am, hT, hoa, hY, hA0, hM, hAs, hAm, hdj⟩
  refine lv_iload hx hb dL_law_1513 (lv_at hl 1 rfl) ?_
  refine lv_icmp_eq (tgt := 1520) hx hb dL_law_1515 (by decide) (fun _ => ?_) (fun z => absurd hr.symm z)
  refine lv_iload hx hb dL_law_1520 (lv_at hl 1 rfl) ?_
  refine lv_if_ne (tgt := 1537) hx hb dL_law_1522 (by decide) (fun _ => ?_) (fun c0 => ?_)
  · refine lv_goto (tgt := 2013) hx hb dL_law_1537 (by decide) ?_
    refine W.widen (k := cells + 100) (n := slots + 2000) (by omega) (by omega) ?_
    exact K _ _ _ _ _ _ hI1 hw hS (lv_sub hl [2, 3, 4, 5, 6] rfl)
  · refine lv_aload_n hx hb dL_law_1525 rfl (lv_at hl 6 rfl) ?_
    refine lv_iconst (v := 0) hx hb dL_law_1526 (by decide) ?_
    refine zt_lld (k := 0) hx hb hK.1 hT (va_up_self _ _ _) (by decide) (by decide) dL_law_1527 ?_
    refine lv_iload hx hb dL_law_1528 (lv_at hl 0 rfl) ?_
    refine lv_i2l hx hb dL_law_1530 rfl ?_
    refine W.lcmp hx hb dL_law_1531 ?_
    refine zm_topi (y := 0) (zcmp0 (hv1 c0)) ?_
    refine lv_if_eq (tgt := 1537) hx hb dL_law_1532 (by decide) (fun _ => ?_) (fun z => absurd rfl z)
    refine lv_goto (tgt := 2013) hx hb dL_law_1537 (by decide) ?_
    refine W.widen (k := cells + 100) (n := slots + 2000) (by omega) (by omega) ?_
    exact K _ _ _ _ _ _ hI1 hw hS (lv_sub hl [2, 3, 4, 5, 6] rfl)
set_option maxHeartbeats 4000000 in
theorem cs_22 {p : Program} {l : Launch} {e : Env} {s : State} {m : MethodId} {below : List Frame} {meth : Method} {c : Code} {Q : State → Prop} {b L : Nat} {xs : Nat → Int32} {g : zG} {xo mo oa : Nat} {ma : Nat → Nat} (C0 : zFx p l s m c b L xs g) {t : Nat} (ht : 5 * t + 5 ≤ L) {S : zS} {X : zX} (hI : zIv t S X) {f : Nat → Int64} {H : Heap} {locs : List Loc} {cells slots : Nat} (hcells : cells + 100 ≤ 1200384) (hslots : slots + 2000 ≤ 5488298) (hw : zLw g (fun q : Nat => s.heap.size ≤ q) xo mo oa ma S X X f H) (hS : va_S (fun q : Nat => s.heap.size ≤ q) s.heap H locs) {ls : Array Slot} (hl : lv_has ls 7 [(4, .int (nI (5 * t))), (0, .ref b), (1, .ref xo), (2, .ref mo), (3, .ref oa)]) (K : zKt p l e s m below meth c b g xo mo oa ma t (cells + 100) (slots + 2000) Q) : W p l e room_1 s m #[Value.ref b] below meth c H locs cells slots Q (F0 m 1540 ls []) := by
  obtain ⟨hL, hl0, hx, hb, hml, hown, hts, hX, hbl, hK⟩ := C0
  have hbA : ¬ (fun q : Nat => s.heap.size ≤ q) b := Nat.not_le.mpr hbl
  obtain ⟨T, As, Am, hT, hoa, hY, hA0, hM, hAs, hAm, hdj⟩ := hw
  subst hA0
  have ht99 : t ≤ 99 := by omega
  refine lv_aload_n hx hb dL_law_1540 rfl (lv_at hl 2 rfl) ?_
  refine lv_aload_n hx hb dL_law_1541 rfl (lv_at hl 1 rfl) ?_
  refine lv_iload hx hb dL_law_1542 (lv_at hl 0 rfl) ?_
  refine lv_iconst (v := 1) hx hb dL_law_1544 (by decide) ?_
  refine lv_iadd hx hb dL_law_1545 ?_
  refine zm_topi (y := nI (5 * t + 1)) (nI_add (5 * t) 1) ?_
  refine va_sld hx hb hX hbl hbA hS (vp_in_nI (n := 5 * t + 1) (N := L) (by omega) (by omega)) dL_law_1546 ?_
  refine zm_topi (y := xs (5 * t + 1)) (congrArg xs (nI_clamp (n := 5 * t + 1) (by omega))) ?_
  refine lv_aload_n hx hb dL_law_1547 rfl (lv_at hl 4 rfl) ?_
  refine zl_sys (As := [.ref (S.A 0), .int (xs (5 * t + 1)), .ref oa]) (rest := []) ⟨hx, hb, hml, hown, hts⟩ (ct_X0_lifeAnew l hl0 g As S X T hY oa f hoa hI.I (hI.lo ht99) (hI.lg.hs hI.n60) hI.lg.2.2.1 (xs (5 * t + 1))) zn_X0_lifeAnew (lw_SW q965 q966 q38 q967) (Nat.le_of_ble_eq_true rfl) (Nat.le_of_ble_eq_true rfl) hK hAs hS hT rfl hl.1 (Nat.le_of_ble_eq_true rfl) dL_law_1548 ⟨by show _ + 3 ≤ 1200384; omega, by show _ + 70 ≤ 5488298; omega⟩ (fun r u H1 locs1 hp hT1 hz hkk hS1 => ?_)
  obtain ⟨hr, hn1, hp⟩ := hp
  obtain ⟨hI1, hA1, hY1, hv1⟩ := zStep.out (zp_life hI (xs (5 * t + 1))) hI hr hp
  have hw := zLw.sys (B := fun q : Nat => s.heap.size ≤ q) hT hM hAs hAm hdj hT1 hn1 hY1 hA1 hz hkk
  obtain ⟨T, As, Am, hT, hoa, hY, hA0, hM, hAs, hAm, hdj⟩ := hw
  have hS := hS1
  refine lv_istore (lv' := [(5, .int r), (4, .int (nI (5 * t))), (0, .ref b), (1, .ref (S.A 0)), (2, .ref mo), (3, .ref oa)]) hx hb dL_law_1551 hl (by decide) rfl (fun ls hl => ?_)
  refine lv_aload_n hx hb dL_law_1553 rfl (lv_at hl 4 rfl) ?_
  refine lv_aload_n hx hb dL_law_1554 rfl (lv_at hl 2 rfl) ?_
  refine lv_iload hx hb dL_law_1555 (lv_at hl 1 rfl) ?_
  refine lv_iconst (v := 1) hx hb dL_law_1557 (by decide) ?_
  refine lv_iadd hx hb dL_law_1558 ?_
  refine zm_topi (y := nI (5 * t + 1)) (nI_add (5 * t) 1) ?_
  refine va_sld hx hb hX hbl hbA hS (vp_in_nI (n := 5 * t + 1) (N := L) (by omega) (by omega)) dL_law_1559 ?_
  refine zm_topi (y := xs (5 * t + 1)) (congrArg xs (nI_clamp (n := 5 * t + 1) (by omega))) ?_
  refine zl_mod (As := [.int (xs (5 * t + 1))]) (rest := []) ⟨hx, hb, hml, hown, hts⟩ (ct_X3_lifeAnew l g Am mo ma X (xs (5 * t + 1)) hI.I) zn_X3_lifeAnew (lw_V q1314 q1315 q1316 q48 q1317) rfl (Nat.le_of_ble_eq_true rfl) (Nat.le_of_ble_eq_true rfl) hK hAm hS hM (zx_recv (hK.narrow hAm) hM) rfl hl.1 (Nat.le_of_ble_eq_true rfl) dL_law_1560 ⟨by show _ + 0 ≤ 1200384; omega, by show _ + 0 ≤ 5488298; omega⟩ (fun r2 u H1 locs1 hp hM1 hz hkk hS1 => ?_)
  subst hp
  have hw := zLw.mod (B := fun q : Nat => s.heap.size ≤ q) hT hoa hY hA0 hM hAs hAm hdj hM1 hz hkk
  obtain ⟨T, As, Am, hT, hoa, hY, hA0, hM, hAs, hAm, hdj⟩ := hw
  have hS := hS1
  refine lv_istore (lv' := [(6, .int ((m_life X (xs (5 * t + 1))).1)), (5, .int r), (4, .int (nI (5 * t))), (0, .ref b), (1, .ref (S.A 0)), (2, .ref mo), (3, .ref oa)]) hx hb dL_law_1563 hl (by decide) rfl (fun ls hl => ?_)
  refine lv_aload_n hx hb dL_law_1565 rfl (lv_at hl 5 rfl) ?_
  refine zl_mod (As := []) (rest := []) ⟨hx, hb, hml, hown, hts⟩ (ct_X3_thrown l g Am mo ma (m_life X (xs (5 * t + 1))).2) zn_X3_thrown (lw_V q1122 q1123 q1124 q48 q1125) rfl (Nat.le_of_ble_eq_true rfl) (Nat.le_of_ble_eq_true rfl) hK hAm hS hM (zx_recv (hK.narrow hAm) hM) rfl hl.1 (Nat.le_of_ble_eq_true rfl) dL_law_1566 ⟨by show _ + 0 ≤ 1200384; omega, by show _ + 0 ≤ 5488298; omega⟩ (fun r2 u H1 locs1 hp hM1 hz hkk hS1 => ?_)
  subst hp
  have hw := zLw.mod (B := fun q : Nat => s.heap.size ≤ q) hT hoa hY hA0 hM hAs hAm hdj hM1 hz hkk
  obtain ⟨T, As, Am, hT, hoa, hY, hA0, hM, hAs, hAm, hdj⟩ := hw
  have hS := hS1
  have hw : zLw g (fun q : Nat => s.heap.size ≤ q) (S.A 0) mo oa ma _ _ _ _ _ := ⟨T, As, Am, hT, hoa, hY, hA0, hM, hAs, hAm, hdj⟩
  refine lv_iload hx hb dL_law_1569 (lv_at hl 1 rfl) ?_
  refine lv_icmp_eq (tgt := 1576) hx hb dL_law_1571 (by decide) (fun _ => ?_) (fun z => absurd hr.symm z)
  refine lv_iload hx hb dL_law_1576 (lv_at hl 1 rfl) ?_
  refine lv_if_ne (tgt := 1593) hx hb dL_law_1578 (by decide) (fun _ => ?_) (fun c0 => ?_)
  · refine lv_goto (tgt := 2013) hx hb dL_law_1593 (by decide) ?_
    refine W.widen (k := cells + 100) (n := slots + 2000) (by omega) (by omega) ?_
    exact K _ _ _ _ _ _ hI1 hw hS (lv_sub hl [2, 3, 4, 5, 6] rfl)
  · refine lv_aload_n hx hb dL_law_1581 rfl (lv_at hl 6 rfl) ?_
    refine lv_iconst (v := 0) hx hb dL_law_1582 (by decide) ?_
    refine zt_lld (k := 0) hx hb hK.1 hT (va_up_self _ _ _) (by decide) (by decide) dL_law_1583 ?_
    refine lv_iload hx hb dL_law_1584 (lv_at hl 0 rfl) ?_
    refine lv_i2l hx hb dL_law_1586 rfl ?_
    refine W.lcmp hx hb dL_law_1587 ?_
    refine zm_topi (y := 0) (zcmp0 (hv1 c0)) ?_
    refine lv_if_eq (tgt := 1593) hx hb dL_law_1588 (by decide) (fun _ => ?_) (fun z => absurd rfl z)
    refine lv_goto (tgt := 2013) hx hb dL_law_1593 (by decide) ?_
    refine W.widen (k := cells + 100) (n := slots + 2000) (by omega) (by omega) ?_
    exact K _ _ _ _ _ _ hI1 hw hS (lv_sub hl [2, 3, 4, 5, 6] rfl)
set_option maxHeartbeats 4000000 in
theorem cs_23 {p : Program} {l : Launch} {e : Env} {s : State} {m : MethodId} {below : List Frame} {meth : Method} {c : Code} {Q : State → Prop} {b L : Nat} {xs : Nat → Int32} {g : zG} {xo mo oa : Nat} {ma : Nat → Nat} (C0 : zFx p l s m c b L xs g) {t : Nat} (ht : 5 * t + 5 ≤ L) {S : zS} {X : zX} (hI : zIv t S X) {f : Nat → Int64} {H : Heap} {locs : List Loc} {cells slots : Nat} (hcells : cells + 100 ≤ 1200384) (hslots : slots + 2000 ≤ 5488298) (hw : zLw g (fun q : Nat => s.heap.size ≤ q) xo mo oa ma S X X f H) (hS : va_S (fun q : Nat => s.heap.size ≤ q) s.heap H locs) {ls : Array Slot} (hl : lv_has ls 7 [(4, .int (nI (5 * t))), (0, .ref b), (1, .ref xo), (2, .ref mo), (3, .ref oa)]) (K : zKt p l e s m below meth c b g xo mo oa ma t (cells + 100) (slots + 2000) Q) : W p l e room_1 s m #[Value.ref b] below meth c H locs cells slots Q (F0 m 1596 ls []) := by
  obtain ⟨hL, hl0, hx, hb, hml, hown, hts, hX, hbl, hK⟩ := C0
  have hbA : ¬ (fun q : Nat => s.heap.size ≤ q) b := Nat.not_le.mpr hbl
  obtain ⟨T, As, Am, hT, hoa, hY, hA0, hM, hAs, hAm, hdj⟩ := hw
  subst hA0
  have ht99 : t ≤ 99 := by omega
  refine lv_aload_n hx hb dL_law_1596 rfl (lv_at hl 2 rfl) ?_
  refine lv_aload_n hx hb dL_law_1597 rfl (lv_at hl 1 rfl) ?_
  refine lv_iload hx hb dL_law_1598 (lv_at hl 0 rfl) ?_
  refine lv_iconst (v := 1) hx hb dL_law_1600 (by decide) ?_
  refine lv_iadd hx hb dL_law_1601 ?_
  refine zm_topi (y := nI (5 * t + 1)) (nI_add (5 * t) 1) ?_
  refine va_sld hx hb hX hbl hbA hS (vp_in_nI (n := 5 * t + 1) (N := L) (by omega) (by omega)) dL_law_1602 ?_
  refine zm_topi (y := xs (5 * t + 1)) (congrArg xs (nI_clamp (n := 5 * t + 1) (by omega))) ?_
  refine lv_aload_n hx hb dL_law_1603 rfl (lv_at hl 1 rfl) ?_
  refine lv_iload hx hb dL_law_1604 (lv_at hl 0 rfl) ?_
  refine lv_iconst (v := 2) hx hb dL_law_1606 (by decide) ?_
  refine lv_iadd hx hb dL_law_1607 ?_
  refine zm_topi (y := nI (5 * t + 2)) (nI_add (5 * t) 2) ?_
  refine va_sld hx hb hX hbl hbA hS (vp_in_nI (n := 5 * t + 2) (N := L) (by omega) (by omega)) dL_law_1608 ?_
  refine zm_topi (y := xs (5 * t + 2)) (congrArg xs (nI_clamp (n := 5 * t + 2) (by omega))) ?_
  refine lv_aload_n hx hb dL_law_1609 rfl (lv_at hl 4 rfl) ?_
  refine zl_sys (As := [.ref (S.A 0), .int (xs (5 * t + 1)), .int (xs (5 * t + 2)), .ref oa]) (rest := []) ⟨hx, hb, hml, hown, hts⟩ (ct_X0_wheel l hl0 g As S X T hY oa f hoa hI.I (xs (5 * t + 1)) (xs (5 * t + 2))) zn_X0_wheel (lw_SW q972 q973 q38 q974) (Nat.le_of_ble_eq_true rfl) (Nat.le_of_ble_eq_true rfl) hK hAs hS hT rfl hl.1 (Nat.le_of_ble_eq_true rfl) dL_law_1610 ⟨by show _ + 3 ≤ 1200384; omega, by show _ + 18 ≤ 5488298; omega⟩ (fun r u H1 locs1 hp hT1 hz hkk hS1 => ?_)
  obtain ⟨hr, hn1, hp⟩ := hp
  obtain ⟨hI1, hA1, hY1, hv1⟩ := zStep.out (zp_wheel hI (xs (5 * t + 1)) (xs (5 * t + 2))) hI hr hp
  have hw := zLw.sys (B := fun q : Nat => s.heap.size ≤ q) hT hM hAs hAm hdj hT1 hn1 hY1 hA1 hz hkk
  obtain ⟨T, As, Am, hT, hoa, hY, hA0, hM, hAs, hAm, hdj⟩ := hw
  have hS := hS1
  refine lv_istore (lv' := [(5, .int r), (4, .int (nI (5 * t))), (0, .ref b), (1, .ref (S.A 0)), (2, .ref mo), (3, .ref oa)]) hx hb dL_law_1613 hl (by decide) rfl (fun ls hl => ?_)
  refine lv_aload_n hx hb dL_law_1615 rfl (lv_at hl 4 rfl) ?_
  refine lv_aload_n hx hb dL_law_1616 rfl (lv_at hl 2 rfl) ?_
  refine lv_iload hx hb dL_law_1617 (lv_at hl 1 rfl) ?_
  refine lv_iconst (v := 1) hx hb dL_law_1619 (by decide) ?_
  refine lv_iadd hx hb dL_law_1620 ?_
  refine zm_topi (y := nI (5 * t + 1)) (nI_add (5 * t) 1) ?_
  refine va_sld hx hb hX hbl hbA hS (vp_in_nI (n := 5 * t + 1) (N := L) (by omega) (by omega)) dL_law_1621 ?_
  refine zm_topi (y := xs (5 * t + 1)) (congrArg xs (nI_clamp (n := 5 * t + 1) (by omega))) ?_
  refine lv_aload_n hx hb dL_law_1622 rfl (lv_at hl 2 rfl) ?_
  refine lv_iload hx hb dL_law_1623 (lv_at hl 1 rfl) ?_
  refine lv_iconst (v := 2) hx hb dL_law_1625 (by decide) ?_
  refine lv_iadd hx hb dL_law_1626 ?_
  refine zm_topi (y := nI (5 * t + 2)) (nI_add (5 * t) 2) ?_
  refine va_sld hx hb hX hbl hbA hS (vp_in_nI (n := 5 * t + 2) (N := L) (by omega) (by omega)) dL_law_1627 ?_
  refine zm_topi (y := xs (5 * t + 2)) (congrArg xs (nI_clamp (n := 5 * t + 2) (by omega))) ?_
  refine zl_mod (As := [.int (xs (5 * t + 1)), .int (xs (5 * t + 2))]) (rest := []) ⟨hx, hb, hml, hown, hts⟩ (ct_X3_wheel l g Am mo ma X (xs (5 * t + 1)) (xs (5 * t + 2)) hI.I) zn_X3_wheel (lw_V q1318 q1319 q1320 q48 q1321) rfl (Nat.le_of_ble_eq_true rfl) (Nat.le_of_ble_eq_true rfl) hK hAm hS hM (zx_recv (hK.narrow hAm) hM) rfl hl.1 (Nat.le_of_ble_eq_true rfl) dL_law_1628 ⟨by show _ + 0 ≤ 1200384; omega, by show _ + 0 ≤ 5488298; omega⟩ (fun r2 u H1 locs1 hp hM1 hz hkk hS1 => ?_)
  subst hp
  have hw := zLw.mod (B := fun q : Nat => s.heap.size ≤ q) hT hoa hY hA0 hM hAs hAm hdj hM1 hz hkk
  obtain ⟨T, As, Am, hT, hoa, hY, hA0, hM, hAs, hAm, hdj⟩ := hw
  have hS := hS1
  refine lv_istore (lv' := [(6, .int ((m_wheel X (xs (5 * t + 1)) (xs (5 * t + 2))).1)), (5, .int r), (4, .int (nI (5 * t))), (0, .ref b), (1, .ref (S.A 0)), (2, .ref mo), (3, .ref oa)]) hx hb dL_law_1631 hl (by decide) rfl (fun ls hl => ?_)
  refine lv_aload_n hx hb dL_law_1633 rfl (lv_at hl 5 rfl) ?_
  refine zl_mod (As := []) (rest := []) ⟨hx, hb, hml, hown, hts⟩ (ct_X3_thrown l g Am mo ma (m_wheel X (xs (5 * t + 1)) (xs (5 * t + 2))).2) zn_X3_thrown (lw_V q1122 q1123 q1124 q48 q1125) rfl (Nat.le_of_ble_eq_true rfl) (Nat.le_of_ble_eq_true rfl) hK hAm hS hM (zx_recv (hK.narrow hAm) hM) rfl hl.1 (Nat.le_of_ble_eq_true rfl) dL_law_1634 ⟨by show _ + 0 ≤ 1200384; omega, by show _ + 0 ≤ 5488298; omega⟩ (fun r2 u H1 locs1 hp hM1 hz hkk hS1 => ?_)
  subst hp
  have hw := zLw.mod (B := fun q : Nat => s.heap.size ≤ q) hT hoa hY hA0 hM hAs hAm hdj hM1 hz hkk
  obtain ⟨T, As, Am, hT, hoa, hY, hA0, hM, hAs, hAm, hdj⟩ := hw
  have hS := hS1
  have hw : zLw g (fun q : Nat => s.heap.size ≤ q) (S.A 0) mo oa ma _ _ _ _ _ := ⟨T, As, Am, hT, hoa, hY, hA0, hM, hAs, hAm, hdj⟩
  refine lv_iload hx hb dL_law_1637 (lv_at hl 1 rfl) ?_
  refine lv_icmp_eq (tgt := 1644) hx hb dL_law_1639 (by decide) (fun _ => ?_) (fun z => absurd hr.symm z)
  refine lv_iload hx hb dL_law_1644 (lv_at hl 1 rfl) ?_
  refine lv_if_ne (tgt := 1661) hx hb dL_law_1646 (by decide) (fun _ => ?_) (fun c0 => ?_)
  · refine lv_goto (tgt := 2013) hx hb dL_law_1661 (by decide) ?_
    refine W.widen (k := cells + 100) (n := slots + 2000) (by omega) (by omega) ?_
    exact K _ _ _ _ _ _ hI1 hw hS (lv_sub hl [2, 3, 4, 5, 6] rfl)
  · refine lv_aload_n hx hb dL_law_1649 rfl (lv_at hl 6 rfl) ?_
    refine lv_iconst (v := 0) hx hb dL_law_1650 (by decide) ?_
    refine zt_lld (k := 0) hx hb hK.1 hT (va_up_self _ _ _) (by decide) (by decide) dL_law_1651 ?_
    refine lv_iload hx hb dL_law_1652 (lv_at hl 0 rfl) ?_
    refine lv_i2l hx hb dL_law_1654 rfl ?_
    refine W.lcmp hx hb dL_law_1655 ?_
    refine zm_topi (y := 0) (zcmp0 (hv1 c0)) ?_
    refine lv_if_eq (tgt := 1661) hx hb dL_law_1656 (by decide) (fun _ => ?_) (fun z => absurd rfl z)
    refine lv_goto (tgt := 2013) hx hb dL_law_1661 (by decide) ?_
    refine W.widen (k := cells + 100) (n := slots + 2000) (by omega) (by omega) ?_
    exact K _ _ _ _ _ _ hI1 hw hS (lv_sub hl [2, 3, 4, 5, 6] rfl)
set_option maxHeartbeats 4000000 in
theorem cs_24 {p : Program} {l : Launch} {e : Env} {s : State} {m : MethodId} {below : List Frame} {meth : Method} {c : Code} {Q : State → Prop} {b L : Nat} {xs : Nat → Int32} {g : zG} {xo mo oa : Nat} {ma : Nat → Nat} (C0 : zFx p l s m c b L xs g) {t : Nat} (ht : 5 * t + 5 ≤ L) {S : zS} {X : zX} (hI : zIv t S X) {f : Nat → Int64} {H : Heap} {locs : List Loc} {cells slots : Nat} (hcells : cells + 100 ≤ 1200384) (hslots : slots + 2000 ≤ 5488298) (hw : zLw g (fun q : Nat => s.heap.size ≤ q) xo mo oa ma S X X f H) (hS : va_S (fun q : Nat => s.heap.size ≤ q) s.heap H locs) {ls : Array Slot} (hl : lv_has ls 7 [(4, .int (nI (5 * t))), (0, .ref b), (1, .ref xo), (2, .ref mo), (3, .ref oa)]) (K : zKt p l e s m below meth c b g xo mo oa ma t (cells + 100) (slots + 2000) Q) : W p l e room_1 s m #[Value.ref b] below meth c H locs cells slots Q (F0 m 1664 ls []) := by
  obtain ⟨hL, hl0, hx, hb, hml, hown, hts, hX, hbl, hK⟩ := C0
  have hbA : ¬ (fun q : Nat => s.heap.size ≤ q) b := Nat.not_le.mpr hbl
  obtain ⟨T, As, Am, hT, hoa, hY, hA0, hM, hAs, hAm, hdj⟩ := hw
  subst hA0
  have ht99 : t ≤ 99 := by omega
  refine lv_aload_n hx hb dL_law_1664 rfl (lv_at hl 2 rfl) ?_
  refine lv_aload_n hx hb dL_law_1665 rfl (lv_at hl 1 rfl) ?_
  refine lv_iload hx hb dL_law_1666 (lv_at hl 0 rfl) ?_
  refine lv_iconst (v := 1) hx hb dL_law_1668 (by decide) ?_
  refine lv_iadd hx hb dL_law_1669 ?_
  refine zm_topi (y := nI (5 * t + 1)) (nI_add (5 * t) 1) ?_
  refine va_sld hx hb hX hbl hbA hS (vp_in_nI (n := 5 * t + 1) (N := L) (by omega) (by omega)) dL_law_1670 ?_
  refine zm_topi (y := xs (5 * t + 1)) (congrArg xs (nI_clamp (n := 5 * t + 1) (by omega))) ?_
  refine lv_aload_n hx hb dL_law_1671 rfl (lv_at hl 1 rfl) ?_
  refine lv_iload hx hb dL_law_1672 (lv_at hl 0 rfl) ?_
  refine lv_iconst (v := 2) hx hb dL_law_1674 (by decide) ?_
  refine lv_iadd hx hb dL_law_1675 ?_
  refine zm_topi (y := nI (5 * t + 2)) (nI_add (5 * t) 2) ?_
  refine va_sld hx hb hX hbl hbA hS (vp_in_nI (n := 5 * t + 2) (N := L) (by omega) (by omega)) dL_law_1676 ?_
  refine zm_topi (y := xs (5 * t + 2)) (congrArg xs (nI_clamp (n := 5 * t + 2) (by omega))) ?_
  refine lv_aload_n hx hb dL_law_1677 rfl (lv_at hl 1 rfl) ?_
  refine lv_iload hx hb dL_law_1678 (lv_at hl 0 rfl) ?_
  refine lv_iconst (v := 3) hx hb dL_law_1680 (by decide) ?_
  refine lv_iadd hx hb dL_law_1681 ?_
  refine zm_topi (y := nI (5 * t + 3)) (nI_add (5 * t) 3) ?_
  refine va_sld hx hb hX hbl hbA hS (vp_in_nI (n := 5 * t + 3) (N := L) (by omega) (by omega)) dL_law_1682 ?_
  refine zm_topi (y := xs (5 * t + 3)) (congrArg xs (nI_clamp (n := 5 * t + 3) (by omega))) ?_
  refine lv_aload_n hx hb dL_law_1683 rfl (lv_at hl 4 rfl) ?_
  refine zl_sys (As := [.ref (S.A 0), .int (xs (5 * t + 1)), .int (xs (5 * t + 2)), .int (xs (5 * t + 3)), .ref oa]) (rest := []) ⟨hx, hb, hml, hown, hts⟩ (ct_X0_foretell l hl0 g As S X T hY oa f hoa hI.I hI.2.2.2.2.1 (xs (5 * t + 1)) (xs (5 * t + 2)) (xs (5 * t + 3))) zn_X0_foretell (lw_SW q979 q980 q38 q981) (Nat.le_of_ble_eq_true rfl) (Nat.le_of_ble_eq_true rfl) hK hAs hS hT rfl hl.1 (Nat.le_of_ble_eq_true rfl) dL_law_1684 ⟨by show _ + 3 ≤ 1200384; omega, by show _ + 18 ≤ 5488298; omega⟩ (fun r u H1 locs1 hp hT1 hz hkk hS1 => ?_)
  obtain ⟨hr, hn1, hp⟩ := hp
  obtain ⟨hI1, hA1, hY1, hv1⟩ := zStep.out (zp_foretell hI (xs (5 * t + 1)) (xs (5 * t + 2)) (xs (5 * t + 3))) hI hr hp
  have hw := zLw.sys (B := fun q : Nat => s.heap.size ≤ q) hT hM hAs hAm hdj hT1 hn1 hY1 hA1 hz hkk
  obtain ⟨T, As, Am, hT, hoa, hY, hA0, hM, hAs, hAm, hdj⟩ := hw
  have hS := hS1
  refine lv_istore (lv' := [(5, .int r), (4, .int (nI (5 * t))), (0, .ref b), (1, .ref (S.A 0)), (2, .ref mo), (3, .ref oa)]) hx hb dL_law_1687 hl (by decide) rfl (fun ls hl => ?_)
  refine lv_aload_n hx hb dL_law_1689 rfl (lv_at hl 4 rfl) ?_
  refine lv_aload_n hx hb dL_law_1690 rfl (lv_at hl 2 rfl) ?_
  refine lv_iload hx hb dL_law_1691 (lv_at hl 1 rfl) ?_
  refine lv_iconst (v := 1) hx hb dL_law_1693 (by decide) ?_
  refine lv_iadd hx hb dL_law_1694 ?_
  refine zm_topi (y := nI (5 * t + 1)) (nI_add (5 * t) 1) ?_
  refine va_sld hx hb hX hbl hbA hS (vp_in_nI (n := 5 * t + 1) (N := L) (by omega) (by omega)) dL_law_1695 ?_
  refine zm_topi (y := xs (5 * t + 1)) (congrArg xs (nI_clamp (n := 5 * t + 1) (by omega))) ?_
  refine lv_aload_n hx hb dL_law_1696 rfl (lv_at hl 2 rfl) ?_
  refine lv_iload hx hb dL_law_1697 (lv_at hl 1 rfl) ?_
  refine lv_iconst (v := 2) hx hb dL_law_1699 (by decide) ?_
  refine lv_iadd hx hb dL_law_1700 ?_
  refine zm_topi (y := nI (5 * t + 2)) (nI_add (5 * t) 2) ?_
  refine va_sld hx hb hX hbl hbA hS (vp_in_nI (n := 5 * t + 2) (N := L) (by omega) (by omega)) dL_law_1701 ?_
  refine zm_topi (y := xs (5 * t + 2)) (congrArg xs (nI_clamp (n := 5 * t + 2) (by omega))) ?_
  refine lv_aload_n hx hb dL_law_1702 rfl (lv_at hl 2 rfl) ?_
  refine lv_iload hx hb dL_law_1703 (lv_at hl 1 rfl) ?_
  refine lv_iconst (v := 3) hx hb dL_law_1705 (by decide) ?_
  refine lv_iadd hx hb dL_law_1706 ?_
  refine zm_topi (y := nI (5 * t + 3)) (nI_add (5 * t) 3) ?_
  refine va_sld hx hb hX hbl hbA hS (vp_in_nI (n := 5 * t + 3) (N := L) (by omega) (by omega)) dL_law_1707 ?_
  refine zm_topi (y := xs (5 * t + 3)) (congrArg xs (nI_clamp (n := 5 * t + 3) (by omega))) ?_
  refine zl_mod (As := [.int (xs (5 * t + 1)), .int (xs (5 * t + 2)), .int (xs (5 * t + 3))]) (rest := []) ⟨hx, hb, hml, hown, hts⟩ (ct_X3_foretell l g Am mo ma X (xs (5 * t + 1)) (xs (5 * t + 2)) (xs (5 * t + 3)) hI.I) zn_X3_foretell (lw_V q1322 q1323 q1324 q48 q1325) rfl (Nat.le_of_ble_eq_true rfl) (Nat.le_of_ble_eq_true rfl) hK hAm hS hM (zx_recv (hK.narrow hAm) hM) rfl hl.1 (Nat.le_of_ble_eq_true rfl) dL_law_1708 ⟨by show _ + 0 ≤ 1200384; omega, by show _ + 0 ≤ 5488298; omega⟩ (fun r2 u H1 locs1 hp hM1 hz hkk hS1 => ?_)
  subst hp
  have hw := zLw.mod (B := fun q : Nat => s.heap.size ≤ q) hT hoa hY hA0 hM hAs hAm hdj hM1 hz hkk
  obtain ⟨T, As, Am, hT, hoa, hY, hA0, hM, hAs, hAm, hdj⟩ := hw
  have hS := hS1
  refine lv_istore (lv' := [(6, .int ((m_foretell X (xs (5 * t + 1)) (xs (5 * t + 2)) (xs (5 * t + 3))).1)), (5, .int r), (4, .int (nI (5 * t))), (0, .ref b), (1, .ref (S.A 0)), (2, .ref mo), (3, .ref oa)]) hx hb dL_law_1711 hl (by decide) rfl (fun ls hl => ?_)
  refine lv_aload_n hx hb dL_law_1713 rfl (lv_at hl 5 rfl) ?_
  refine zl_mod (As := []) (rest := []) ⟨hx, hb, hml, hown, hts⟩ (ct_X3_thrown l g Am mo ma (m_foretell X (xs (5 * t + 1)) (xs (5 * t + 2)) (xs (5 * t + 3))).2) zn_X3_thrown (lw_V q1122 q1123 q1124 q48 q1125) rfl (Nat.le_of_ble_eq_true rfl) (Nat.le_of_ble_eq_true rfl) hK hAm hS hM (zx_recv (hK.narrow hAm) hM) rfl hl.1 (Nat.le_of_ble_eq_true rfl) dL_law_1714 ⟨by show _ + 0 ≤ 1200384; omega, by show _ + 0 ≤ 5488298; omega⟩ (fun r2 u H1 locs1 hp hM1 hz hkk hS1 => ?_)
  subst hp
  have hw := zLw.mod (B := fun q : Nat => s.heap.size ≤ q) hT hoa hY hA0 hM hAs hAm hdj hM1 hz hkk
  obtain ⟨T, As, Am, hT, hoa, hY, hA0, hM, hAs, hAm, hdj⟩ := hw
  have hS := hS1
  have hw : zLw g (fun q : Nat => s.heap.size ≤ q) (S.A 0) mo oa ma _ _ _ _ _ := ⟨T, As, Am, hT, hoa, hY, hA0, hM, hAs, hAm, hdj⟩
  refine lv_iload hx hb dL_law_1717 (lv_at hl 1 rfl) ?_
  refine lv_icmp_eq (tgt := 1724) hx hb dL_law_1719 (by decide) (fun _ => ?_) (fun z => absurd hr.symm z)
  refine lv_iload hx hb dL_law_1724 (lv_at hl 1 rfl) ?_
  refine lv_if_ne (tgt := 1741) hx hb dL_law_1726 (by decide) (fun _ => ?_) (fun c0 => ?_)
  · refine lv_goto (tgt := 2013) hx hb dL_law_1741 (by decide) ?_
    refine W.widen (k := cells + 100) (n := slots + 2000) (by omega) (by omega) ?_
    exact K _ _ _ _ _ _ hI1 hw hS (lv_sub hl [2, 3, 4, 5, 6] rfl)
  · refine lv_aload_n hx hb dL_law_1729 rfl (lv_at hl 6 rfl) ?_
    refine lv_iconst (v := 0) hx hb dL_law_1730 (by decide) ?_
    refine zt_lld (k := 0) hx hb hK.1 hT (va_up_self _ _ _) (by decide) (by decide) dL_law_1731 ?_
    refine lv_iload hx hb dL_law_1732 (lv_at hl 0 rfl) ?_
    refine lv_i2l hx hb dL_law_1734 rfl ?_
    refine W.lcmp hx hb dL_law_1735 ?_
    refine zm_topi (y := 0) (zcmp0 (hv1 c0)) ?_
    refine lv_if_eq (tgt := 1741) hx hb dL_law_1736 (by decide) (fun _ => ?_) (fun z => absurd rfl z)
    refine lv_goto (tgt := 2013) hx hb dL_law_1741 (by decide) ?_
    refine W.widen (k := cells + 100) (n := slots + 2000) (by omega) (by omega) ?_
    exact K _ _ _ _ _ _ hI1 hw hS (lv_sub hl [2, 3, 4, 5, 6] rfl)
set_option maxHeartbeats 4000000 in
theorem cs_25 {p : Program} {l : Launch} {e : Env} {s : State} {m : MethodId} {below : List Frame} {meth : Method} {c : Code} {Q : State → Prop} {b L : Nat} {xs : Nat → Int32} {g : zG} {xo mo oa : Nat} {ma : Nat → Nat} (C0 : zFx p l s m c b L xs g) {t : Nat} (ht : 5 * t + 5 ≤ L) {S : zS} {X : zX} (hI : zIv t S X) {f : Nat → Int64} {H : Heap} {locs : List Loc} {cells slots : Nat} (hcells : cells + 100 ≤ 1200384) (hslots : slots + 2000 ≤ 5488298) (hw : zLw g (fun q : Nat => s.heap.size ≤ q) xo mo oa ma S X X f H) (hS : va_S (fun q : Nat => s.heap.size ≤ q) s.heap H locs) {ls : Array Slot} (hl : lv_has ls 7 [(4, .int (nI (5 * t))), (0, .ref b), (1, .ref xo), (2, .ref mo), (3, .ref oa)]) (K : zKt p l e s m below meth c b g xo mo oa ma t (cells + 100) (slots + 2000) Q) : W p l e room_1 s m #[Value.ref b] below meth c H locs cells slots Q (F0 m 1744 ls []) := by
  obtain ⟨hL, hl0, hx, hb, hml, hown, hts, hX, hbl, hK⟩ := C0
  have hbA : ¬ (fun q : Nat => s.heap.size ≤ q) b := Nat.not_le.mpr hbl
  obtain ⟨T, As, Am, hT, hoa, hY, hA0, hM, hAs, hAm, hdj⟩ := hw
  subst hA0
  have ht99 : t ≤ 99 := by omega
  refine lv_aload_n hx hb dL_law_1744 rfl (lv_at hl 2 rfl) ?_
  refine lv_aload_n hx hb dL_law_1745 rfl (lv_at hl 1 rfl) ?_
  refine lv_iload hx hb dL_law_1746 (lv_at hl 0 rfl) ?_
  refine lv_iconst (v := 1) hx hb dL_law_1748 (by decide) ?_
  refine lv_iadd hx hb dL_law_1749 ?_
  refine zm_topi (y := nI (5 * t + 1)) (nI_add (5 * t) 1) ?_
  refine va_sld hx hb hX hbl hbA hS (vp_in_nI (n := 5 * t + 1) (N := L) (by omega) (by omega)) dL_law_1750 ?_
  refine zm_topi (y := xs (5 * t + 1)) (congrArg xs (nI_clamp (n := 5 * t + 1) (by omega))) ?_
  refine lv_aload_n hx hb dL_law_1751 rfl (lv_at hl 4 rfl) ?_
  refine zl_sys (As := [.ref (S.A 0), .int (xs (5 * t + 1)), .ref oa]) (rest := []) ⟨hx, hb, hml, hown, hts⟩ (ct_X0_bars l hl0 g As S X T hY oa f hoa hI.I hI.1.ko hI.1.kk hI.z9 hI.z10 (hI.BB.bo hI.I) (xs (5 * t + 1))) zn_X0_bars (lw_SW q987 q988 q38 q989) (Nat.le_of_ble_eq_true rfl) (Nat.le_of_ble_eq_true rfl) hK hAs hS hT rfl hl.1 (Nat.le_of_ble_eq_true rfl) dL_law_1752 ⟨by show _ + 9 ≤ 1200384; omega, by show _ + 33 ≤ 5488298; omega⟩ (fun r u H1 locs1 hp hT1 hz hkk hS1 => ?_)
  obtain ⟨hr, hn1, hp⟩ := hp
  obtain ⟨hI1, hA1, hY1, hv1⟩ := zStep.out (zp_bars hI (xs (5 * t + 1))) hI hr hp
  have hw := zLw.sys (B := fun q : Nat => s.heap.size ≤ q) hT hM hAs hAm hdj hT1 hn1 hY1 hA1 hz hkk
  obtain ⟨T, As, Am, hT, hoa, hY, hA0, hM, hAs, hAm, hdj⟩ := hw
  have hS := hS1
  refine lv_istore (lv' := [(5, .int r), (4, .int (nI (5 * t))), (0, .ref b), (1, .ref (S.A 0)), (2, .ref mo), (3, .ref oa)]) hx hb dL_law_1755 hl (by decide) rfl (fun ls hl => ?_)
  refine lv_aload_n hx hb dL_law_1757 rfl (lv_at hl 4 rfl) ?_
  refine lv_aload_n hx hb dL_law_1758 rfl (lv_at hl 2 rfl) ?_
  refine lv_iload hx hb dL_law_1759 (lv_at hl 1 rfl) ?_
  refine lv_iconst (v := 1) hx hb dL_law_1761 (by decide) ?_
  refine lv_iadd hx hb dL_law_1762 ?_
  refine zm_topi (y := nI (5 * t + 1)) (nI_add (5 * t) 1) ?_
  refine va_sld hx hb hX hbl hbA hS (vp_in_nI (n := 5 * t + 1) (N := L) (by omega) (by omega)) dL_law_1763 ?_
  refine zm_topi (y := xs (5 * t + 1)) (congrArg xs (nI_clamp (n := 5 * t + 1) (by omega))) ?_
  refine zl_mod (As := [.int (xs (5 * t + 1))]) (rest := []) ⟨hx, hb, hml, hown, hts⟩ (ct_X3_bars l g Am mo ma X (xs (5 * t + 1)) hI.I hI.z9 hI.z10) zn_X3_bars (lw_V q1326 q1327 q1328 q48 q1329) rfl (Nat.le_of_ble_eq_true rfl) (Nat.le_of_ble_eq_true rfl) hK hAm hS hM (zx_recv (hK.narrow hAm) hM) rfl hl.1 (Nat.le_of_ble_eq_true rfl) dL_law_1764 ⟨by show _ + 0 ≤ 1200384; omega, by show _ + 0 ≤ 5488298; omega⟩ (fun r2 u H1 locs1 hp hM1 hz hkk hS1 => ?_)
  subst hp
  have hw := zLw.mod (B := fun q : Nat => s.heap.size ≤ q) hT hoa hY hA0 hM hAs hAm hdj hM1 hz hkk
  obtain ⟨T, As, Am, hT, hoa, hY, hA0, hM, hAs, hAm, hdj⟩ := hw
  have hS := hS1
  refine lv_istore (lv' := [(6, .int ((m_bars X (xs (5 * t + 1))).1)), (5, .int r), (4, .int (nI (5 * t))), (0, .ref b), (1, .ref (S.A 0)), (2, .ref mo), (3, .ref oa)]) hx hb dL_law_1767 hl (by decide) rfl (fun ls hl => ?_)
  refine lv_aload_n hx hb dL_law_1769 rfl (lv_at hl 5 rfl) ?_
  refine zl_mod (As := []) (rest := []) ⟨hx, hb, hml, hown, hts⟩ (ct_X3_thrown l g Am mo ma (m_bars X (xs (5 * t + 1))).2) zn_X3_thrown (lw_V q1122 q1123 q1124 q48 q1125) rfl (Nat.le_of_ble_eq_true rfl) (Nat.le_of_ble_eq_true rfl) hK hAm hS hM (zx_recv (hK.narrow hAm) hM) rfl hl.1 (Nat.le_of_ble_eq_true rfl) dL_law_1770 ⟨by show _ + 0 ≤ 1200384; omega, by show _ + 0 ≤ 5488298; omega⟩ (fun r2 u H1 locs1 hp hM1 hz hkk hS1 => ?_)
  subst hp
  have hw := zLw.mod (B := fun q : Nat => s.heap.size ≤ q) hT hoa hY hA0 hM hAs hAm hdj hM1 hz hkk
  obtain ⟨T, As, Am, hT, hoa, hY, hA0, hM, hAs, hAm, hdj⟩ := hw
  have hS := hS1
  have hw : zLw g (fun q : Nat => s.heap.size ≤ q) (S.A 0) mo oa ma _ _ _ _ _ := ⟨T, As, Am, hT, hoa, hY, hA0, hM, hAs, hAm, hdj⟩
  refine lv_iload hx hb dL_law_1773 (lv_at hl 1 rfl) ?_
  refine lv_icmp_eq (tgt := 1780) hx hb dL_law_1775 (by decide) (fun _ => ?_) (fun z => absurd hr.symm z)
  refine lv_iload hx hb dL_law_1780 (lv_at hl 1 rfl) ?_
  refine lv_if_ne (tgt := 1797) hx hb dL_law_1782 (by decide) (fun _ => ?_) (fun c0 => ?_)
  · refine lv_goto (tgt := 2013) hx hb dL_law_1797 (by decide) ?_
    refine W.widen (k := cells + 100) (n := slots + 2000) (by omega) (by omega) ?_
    exact K _ _ _ _ _ _ hI1 hw hS (lv_sub hl [2, 3, 4, 5, 6] rfl)
  · refine lv_aload_n hx hb dL_law_1785 rfl (lv_at hl 6 rfl) ?_
    refine lv_iconst (v := 0) hx hb dL_law_1786 (by decide) ?_
    refine zt_lld (k := 0) hx hb hK.1 hT (va_up_self _ _ _) (by decide) (by decide) dL_law_1787 ?_
    refine lv_iload hx hb dL_law_1788 (lv_at hl 0 rfl) ?_
    refine lv_i2l hx hb dL_law_1790 rfl ?_
    refine W.lcmp hx hb dL_law_1791 ?_
    refine zm_topi (y := 0) (zcmp0 (hv1 c0)) ?_
    refine lv_if_eq (tgt := 1797) hx hb dL_law_1792 (by decide) (fun _ => ?_) (fun z => absurd rfl z)
    refine lv_goto (tgt := 2013) hx hb dL_law_1797 (by decide) ?_
    refine W.widen (k := cells + 100) (n := slots + 2000) (by omega) (by omega) ?_
    exact K _ _ _ _ _ _ hI1 hw hS (lv_sub hl [2, 3, 4, 5, 6] rfl)
set_option maxHeartbeats 4000000 in
theorem cs_26 {p : Program} {l : Launch} {e : Env} {s : State} {m : MethodId} {below : List Frame} {meth : Method} {c : Code} {Q : State → Prop} {b L : Nat} {xs : Nat → Int32} {g : zG} {xo mo oa : Nat} {ma : Nat → Nat} (C0 : zFx p l s m c b L xs g) {t : Nat} (ht : 5 * t + 5 ≤ L) {S : zS} {X : zX} (hI : zIv t S X) {f : Nat → Int64} {H : Heap} {locs : List Loc} {cells slots : Nat} (hcells : cells + 100 ≤ 1200384) (hslots : slots + 2000 ≤ 5488298) (hw : zLw g (fun q : Nat => s.heap.size ≤ q) xo mo oa ma S X X f H) (hS : va_S (fun q : Nat => s.heap.size ≤ q) s.heap H locs) {ls : Array Slot} (hl : lv_has ls 7 [(4, .int (nI (5 * t))), (0, .ref b), (1, .ref xo), (2, .ref mo), (3, .ref oa)]) (K : zKt p l e s m below meth c b g xo mo oa ma t (cells + 100) (slots + 2000) Q) : W p l e room_1 s m #[Value.ref b] below meth c H locs cells slots Q (F0 m 1800 ls []) := by
  obtain ⟨hL, hl0, hx, hb, hml, hown, hts, hX, hbl, hK⟩ := C0
  have hbA : ¬ (fun q : Nat => s.heap.size ≤ q) b := Nat.not_le.mpr hbl
  obtain ⟨T, As, Am, hT, hoa, hY, hA0, hM, hAs, hAm, hdj⟩ := hw
  subst hA0
  have ht99 : t ≤ 99 := by omega
  refine lv_aload_n hx hb dL_law_1800 rfl (lv_at hl 2 rfl) ?_
  refine lv_aload_n hx hb dL_law_1801 rfl (lv_at hl 1 rfl) ?_
  refine lv_iload hx hb dL_law_1802 (lv_at hl 0 rfl) ?_
  refine lv_iconst (v := 1) hx hb dL_law_1804 (by decide) ?_
  refine lv_iadd hx hb dL_law_1805 ?_
  refine zm_topi (y := nI (5 * t + 1)) (nI_add (5 * t) 1) ?_
  refine va_sld hx hb hX hbl hbA hS (vp_in_nI (n := 5 * t + 1) (N := L) (by omega) (by omega)) dL_law_1806 ?_
  refine zm_topi (y := xs (5 * t + 1)) (congrArg xs (nI_clamp (n := 5 * t + 1) (by omega))) ?_
  refine lv_aload_n hx hb dL_law_1807 rfl (lv_at hl 4 rfl) ?_
  refine zl_sys (As := [.ref (S.A 0), .int (xs (5 * t + 1)), .ref oa]) (rest := []) ⟨hx, hb, hml, hown, hts⟩ (ct_X0_barredBy l hl0 g As S X T hY oa f hoa hI.I hI.1.ko hI.1.kk hI.z9 hI.z10 hI.BB (xs (5 * t + 1))) zn_X0_barredBy (lw_SW q994 q995 q38 q996) (Nat.le_of_ble_eq_true rfl) (Nat.le_of_ble_eq_true rfl) hK hAs hS hT rfl hl.1 (Nat.le_of_ble_eq_true rfl) dL_law_1808 ⟨by show _ + 10 ≤ 1200384; omega, by show _ + 36 ≤ 5488298; omega⟩ (fun r u H1 locs1 hp hT1 hz hkk hS1 => ?_)
  obtain ⟨hr, hn1, hp⟩ := hp
  obtain ⟨hI1, hA1, hY1, hv1⟩ := zStep.out (zp_barredBy hI (xs (5 * t + 1))) hI hr hp
  have hw := zLw.sys (B := fun q : Nat => s.heap.size ≤ q) hT hM hAs hAm hdj hT1 hn1 hY1 hA1 hz hkk
  obtain ⟨T, As, Am, hT, hoa, hY, hA0, hM, hAs, hAm, hdj⟩ := hw
  have hS := hS1
  refine lv_istore (lv' := [(5, .int r), (4, .int (nI (5 * t))), (0, .ref b), (1, .ref (S.A 0)), (2, .ref mo), (3, .ref oa)]) hx hb dL_law_1811 hl (by decide) rfl (fun ls hl => ?_)
  refine lv_aload_n hx hb dL_law_1813 rfl (lv_at hl 4 rfl) ?_
  refine lv_aload_n hx hb dL_law_1814 rfl (lv_at hl 2 rfl) ?_
  refine lv_iload hx hb dL_law_1815 (lv_at hl 1 rfl) ?_
  refine lv_iconst (v := 1) hx hb dL_law_1817 (by decide) ?_
  refine lv_iadd hx hb dL_law_1818 ?_
  refine zm_topi (y := nI (5 * t + 1)) (nI_add (5 * t) 1) ?_
  refine va_sld hx hb hX hbl hbA hS (vp_in_nI (n := 5 * t + 1) (N := L) (by omega) (by omega)) dL_law_1819 ?_
  refine zm_topi (y := xs (5 * t + 1)) (congrArg xs (nI_clamp (n := 5 * t + 1) (by omega))) ?_
  refine zl_mod (As := [.int (xs (5 * t + 1))]) (rest := []) ⟨hx, hb, hml, hown, hts⟩ (ct_X3_barredBy l g Am mo ma X (xs (5 * t + 1)) hI.I hI.z9 hI.z10) zn_X3_barredBy (lw_V q1330 q1331 q1332 q48 q1333) rfl (Nat.le_of_ble_eq_true rfl) (Nat.le_of_ble_eq_true rfl) hK hAm hS hM (zx_recv (hK.narrow hAm) hM) rfl hl.1 (Nat.le_of_ble_eq_true rfl) dL_law_1820 ⟨by show _ + 0 ≤ 1200384; omega, by show _ + 0 ≤ 5488298; omega⟩ (fun r2 u H1 locs1 hp hM1 hz hkk hS1 => ?_)
  subst hp
  have hw := zLw.mod (B := fun q : Nat => s.heap.size ≤ q) hT hoa hY hA0 hM hAs hAm hdj hM1 hz hkk
  obtain ⟨T, As, Am, hT, hoa, hY, hA0, hM, hAs, hAm, hdj⟩ := hw
  have hS := hS1
  refine lv_istore (lv' := [(6, .int ((m_barredBy X (xs (5 * t + 1))).1)), (5, .int r), (4, .int (nI (5 * t))), (0, .ref b), (1, .ref (S.A 0)), (2, .ref mo), (3, .ref oa)]) hx hb dL_law_1823 hl (by decide) rfl (fun ls hl => ?_)
  refine lv_aload_n hx hb dL_law_1825 rfl (lv_at hl 5 rfl) ?_
  refine zl_mod (As := []) (rest := []) ⟨hx, hb, hml, hown, hts⟩ (ct_X3_thrown l g Am mo ma (m_barredBy X (xs (5 * t + 1))).2) zn_X3_thrown (lw_V q1122 q1123 q1124 q48 q1125) rfl (Nat.le_of_ble_eq_true rfl) (Nat.le_of_ble_eq_true rfl) hK hAm hS hM (zx_recv (hK.narrow hAm) hM) rfl hl.1 (Nat.le_of_ble_eq_true rfl) dL_law_1826 ⟨by show _ + 0 ≤ 1200384; omega, by show _ + 0 ≤ 5488298; omega⟩ (fun r2 u H1 locs1 hp hM1 hz hkk hS1 => ?_)
  subst hp
  have hw := zLw.mod (B := fun q : Nat => s.heap.size ≤ q) hT hoa hY hA0 hM hAs hAm hdj hM1 hz hkk
  obtain ⟨T, As, Am, hT, hoa, hY, hA0, hM, hAs, hAm, hdj⟩ := hw
  have hS := hS1
  have hw : zLw g (fun q : Nat => s.heap.size ≤ q) (S.A 0) mo oa ma _ _ _ _ _ := ⟨T, As, Am, hT, hoa, hY, hA0, hM, hAs, hAm, hdj⟩
  refine lv_iload hx hb dL_law_1829 (lv_at hl 1 rfl) ?_
  refine lv_icmp_eq (tgt := 1836) hx hb dL_law_1831 (by decide) (fun _ => ?_) (fun z => absurd hr.symm z)
  refine lv_iload hx hb dL_law_1836 (lv_at hl 1 rfl) ?_
  refine lv_if_ne (tgt := 1853) hx hb dL_law_1838 (by decide) (fun _ => ?_) (fun c0 => ?_)
  · refine lv_goto (tgt := 2013) hx hb dL_law_1853 (by decide) ?_
    refine W.widen (k := cells + 100) (n := slots + 2000) (by omega) (by omega) ?_
    exact K _ _ _ _ _ _ hI1 hw hS (lv_sub hl [2, 3, 4, 5, 6] rfl)
  · refine lv_aload_n hx hb dL_law_1841 rfl (lv_at hl 6 rfl) ?_
    refine lv_iconst (v := 0) hx hb dL_law_1842 (by decide) ?_
    refine zt_lld (k := 0) hx hb hK.1 hT (va_up_self _ _ _) (by decide) (by decide) dL_law_1843 ?_
    refine lv_iload hx hb dL_law_1844 (lv_at hl 0 rfl) ?_
    refine lv_i2l hx hb dL_law_1846 rfl ?_
    refine W.lcmp hx hb dL_law_1847 ?_
    refine zm_topi (y := 0) (zcmp0 (hv1 c0)) ?_
    refine lv_if_eq (tgt := 1853) hx hb dL_law_1848 (by decide) (fun _ => ?_) (fun z => absurd rfl z)
    refine lv_goto (tgt := 2013) hx hb dL_law_1853 (by decide) ?_
    refine W.widen (k := cells + 100) (n := slots + 2000) (by omega) (by omega) ?_
    exact K _ _ _ _ _ _ hI1 hw hS (lv_sub hl [2, 3, 4, 5, 6] rfl)
set_option maxHeartbeats 4000000 in
theorem cs_27 {p : Program} {l : Launch} {e : Env} {s : State} {m : MethodId} {below : List Frame} {meth : Method} {c : Code} {Q : State → Prop} {b L : Nat} {xs : Nat → Int32} {g : zG} {xo mo oa : Nat} {ma : Nat → Nat} (C0 : zFx p l s m c b L xs g) {t : Nat} (ht : 5 * t + 5 ≤ L) {S : zS} {X : zX} (hI : zIv t S X) {f : Nat → Int64} {H : Heap} {locs : List Loc} {cells slots : Nat} (hcells : cells + 100 ≤ 1200384) (hslots : slots + 2000 ≤ 5488298) (hw : zLw g (fun q : Nat => s.heap.size ≤ q) xo mo oa ma S X X f H) (hS : va_S (fun q : Nat => s.heap.size ≤ q) s.heap H locs) {ls : Array Slot} (hl : lv_has ls 7 [(4, .int (nI (5 * t))), (0, .ref b), (1, .ref xo), (2, .ref mo), (3, .ref oa)]) (K : zKt p l e s m below meth c b g xo mo oa ma t (cells + 100) (slots + 2000) Q) : W p l e room_1 s m #[Value.ref b] below meth c H locs cells slots Q (F0 m 1856 ls []) := by
  obtain ⟨hL, hl0, hx, hb, hml, hown, hts, hX, hbl, hK⟩ := C0
  have hbA : ¬ (fun q : Nat => s.heap.size ≤ q) b := Nat.not_le.mpr hbl
  obtain ⟨T, As, Am, hT, hoa, hY, hA0, hM, hAs, hAm, hdj⟩ := hw
  subst hA0
  have ht99 : t ≤ 99 := by omega
  refine lv_aload_n hx hb dL_law_1856 rfl (lv_at hl 2 rfl) ?_
  refine lv_aload_n hx hb dL_law_1857 rfl (lv_at hl 1 rfl) ?_
  refine lv_iload hx hb dL_law_1858 (lv_at hl 0 rfl) ?_
  refine lv_iconst (v := 1) hx hb dL_law_1860 (by decide) ?_
  refine lv_iadd hx hb dL_law_1861 ?_
  refine zm_topi (y := nI (5 * t + 1)) (nI_add (5 * t) 1) ?_
  refine va_sld hx hb hX hbl hbA hS (vp_in_nI (n := 5 * t + 1) (N := L) (by omega) (by omega)) dL_law_1862 ?_
  refine zm_topi (y := xs (5 * t + 1)) (congrArg xs (nI_clamp (n := 5 * t + 1) (by omega))) ?_
  refine lv_aload_n hx hb dL_law_1863 rfl (lv_at hl 4 rfl) ?_
  refine zl_sys (As := [.ref (S.A 0), .int (xs (5 * t + 1)), .ref oa]) (rest := []) ⟨hx, hb, hml, hown, hts⟩ (ct_X0_isReleased l hl0 g As S X T hY oa f hoa hI.I hI.z11 (xs (5 * t + 1))) zn_X0_isReleased (lw_SW q1001 q1002 q38 q1003) (Nat.le_of_ble_eq_true rfl) (Nat.le_of_ble_eq_true rfl) hK hAs hS hT rfl hl.1 (Nat.le_of_ble_eq_true rfl) dL_law_1864 ⟨by show _ + 2 ≤ 1200384; omega, by show _ + 12 ≤ 5488298; omega⟩ (fun r u H1 locs1 hp hT1 hz hkk hS1 => ?_)
  obtain ⟨hr, hn1, hp⟩ := hp
  have hr := hr.trans (zu_s X 0 0 (mKc X (xs (5 * t + 1)) 0)).symm
  obtain ⟨hI1, hA1, hY1, hv1⟩ := zStep.out (zp_isRel hI (xs (5 * t + 1))) hI hr hp
  have hw := zLw.sys (B := fun q : Nat => s.heap.size ≤ q) hT hM hAs hAm hdj hT1 hn1 hY1 hA1 hz hkk
  obtain ⟨T, As, Am, hT, hoa, hY, hA0, hM, hAs, hAm, hdj⟩ := hw
  have hS := hS1
  refine lv_istore (lv' := [(5, .int r), (4, .int (nI (5 * t))), (0, .ref b), (1, .ref (S.A 0)), (2, .ref mo), (3, .ref oa)]) hx hb dL_law_1867 hl (by decide) rfl (fun ls hl => ?_)
  refine lv_aload_n hx hb dL_law_1869 rfl (lv_at hl 4 rfl) ?_
  refine lv_aload_n hx hb dL_law_1870 rfl (lv_at hl 2 rfl) ?_
  refine lv_iload hx hb dL_law_1871 (lv_at hl 1 rfl) ?_
  refine lv_iconst (v := 1) hx hb dL_law_1873 (by decide) ?_
  refine lv_iadd hx hb dL_law_1874 ?_
  refine zm_topi (y := nI (5 * t + 1)) (nI_add (5 * t) 1) ?_
  refine va_sld hx hb hX hbl hbA hS (vp_in_nI (n := 5 * t + 1) (N := L) (by omega) (by omega)) dL_law_1875 ?_
  refine zm_topi (y := xs (5 * t + 1)) (congrArg xs (nI_clamp (n := 5 * t + 1) (by omega))) ?_
  refine zl_mod (As := [.int (xs (5 * t + 1))]) (rest := []) ⟨hx, hb, hml, hown, hts⟩ (ct_X3_isReleased l g Am mo ma X (xs (5 * t + 1)) hI.I) zn_X3_isReleased (lw_V q1334 q1335 q1336 q48 q1337) rfl (Nat.le_of_ble_eq_true rfl) (Nat.le_of_ble_eq_true rfl) hK hAm hS hM (zx_recv (hK.narrow hAm) hM) rfl hl.1 (Nat.le_of_ble_eq_true rfl) dL_law_1876 ⟨by show _ + 0 ≤ 1200384; omega, by show _ + 0 ≤ 5488298; omega⟩ (fun r2 u H1 locs1 hp hM1 hz hkk hS1 => ?_)
  subst hp
  have hw := zLw.mod (B := fun q : Nat => s.heap.size ≤ q) hT hoa hY hA0 hM hAs hAm hdj hM1 hz hkk
  obtain ⟨T, As, Am, hT, hoa, hY, hA0, hM, hAs, hAm, hdj⟩ := hw
  have hS := hS1
  refine lv_istore (lv' := [(6, .int (zb (m_isRel X (xs (5 * t + 1))))), (5, .int r), (4, .int (nI (5 * t))), (0, .ref b), (1, .ref (S.A 0)), (2, .ref mo), (3, .ref oa)]) hx hb dL_law_1879 hl (by decide) rfl (fun ls hl => ?_)
  refine lv_aload_n hx hb dL_law_1881 rfl (lv_at hl 5 rfl) ?_
  refine zl_mod (As := []) (rest := []) ⟨hx, hb, hml, hown, hts⟩ (ct_X3_thrown l g Am mo ma (zu X 0 0 (mKc X (xs (5 * t + 1)) 0))) zn_X3_thrown (lw_V q1122 q1123 q1124 q48 q1125) rfl (Nat.le_of_ble_eq_true rfl) (Nat.le_of_ble_eq_true rfl) hK hAm hS hM (zx_recv (hK.narrow hAm) hM) rfl hl.1 (Nat.le_of_ble_eq_true rfl) dL_law_1882 ⟨by show _ + 0 ≤ 1200384; omega, by show _ + 0 ≤ 5488298; omega⟩ (fun r2 u H1 locs1 hp hM1 hz hkk hS1 => ?_)
  subst hp
  have hw := zLw.mod (B := fun q : Nat => s.heap.size ≤ q) hT hoa hY hA0 hM hAs hAm hdj hM1 hz hkk
  obtain ⟨T, As, Am, hT, hoa, hY, hA0, hM, hAs, hAm, hdj⟩ := hw
  have hS := hS1
  have hw : zLw g (fun q : Nat => s.heap.size ≤ q) (S.A 0) mo oa ma _ _ _ _ _ := ⟨T, As, Am, hT, hoa, hY, hA0, hM, hAs, hAm, hdj⟩
  refine lv_iload hx hb dL_law_1885 (lv_at hl 1 rfl) ?_
  refine lv_icmp_eq (tgt := 1892) hx hb dL_law_1887 (by decide) (fun _ => ?_) (fun z => absurd hr.symm z)
  refine lv_iload hx hb dL_law_1892 (lv_at hl 1 rfl) ?_
  refine lv_if_ne (tgt := 1916) hx hb dL_law_1894 (by decide) (fun _ => ?_) (fun c0 => ?_)
  · refine lv_goto (tgt := 2013) hx hb dL_law_1916 (by decide) ?_
    refine W.widen (k := cells + 100) (n := slots + 2000) (by omega) (by omega) ?_
    exact K _ _ _ _ _ _ hI1 hw hS (lv_sub hl [2, 3, 4, 5, 6] rfl)
  · refine lv_aload_n hx hb dL_law_1897 rfl (lv_at hl 6 rfl) ?_
    refine lv_iconst (v := 0) hx hb dL_law_1898 (by decide) ?_
    refine zt_lld (k := 0) hx hb hK.1 hT (va_up_self _ _ _) (by decide) (by decide) dL_law_1899 ?_
    refine lv_iload hx hb dL_law_1900 (lv_at hl 0 rfl) ?_
    refine zl_ifeq (tgt := 1909) (b := m_isRel X ((xs (5 * t + 1)))) hx hb dL_law_1902 (by decide) (fun cz => ?_) (fun cz => ?_)
    · refine lv_lconst (v := 0) hx hb dL_law_1909 rfl ?_
      refine W.lcmp hx hb dL_law_1910 ?_
      refine zm_topi (y := 0) (zcmp0 ((hv1 c0).trans (by rw [cz]; rfl))) ?_
      refine lv_if_eq (tgt := 1916) hx hb dL_law_1911 (by decide) (fun _ => ?_) (fun z => absurd rfl z)
      refine lv_goto (tgt := 2013) hx hb dL_law_1916 (by decide) ?_
      refine W.widen (k := cells + 100) (n := slots + 2000) (by omega) (by omega) ?_
      exact K _ _ _ _ _ _ hI1 hw hS (lv_sub hl [2, 3, 4, 5, 6] rfl)
    · refine lv_lconst (v := 1) hx hb dL_law_1905 rfl ?_
      refine lv_goto (tgt := 1910) hx hb dL_law_1906 (by decide) ?_
      refine W.lcmp hx hb dL_law_1910 ?_
      refine zm_topi (y := 0) (zcmp0 ((hv1 c0).trans (by rw [cz]; rfl))) ?_
      refine lv_if_eq (tgt := 1916) hx hb dL_law_1911 (by decide) (fun _ => ?_) (fun z => absurd rfl z)
      refine lv_goto (tgt := 2013) hx hb dL_law_1916 (by decide) ?_
      refine W.widen (k := cells + 100) (n := slots + 2000) (by omega) (by omega) ?_
      exact K _ _ _ _ _ _ hI1 hw hS (lv_sub hl [2, 3, 4, 5, 6] rfl)
set_option maxHeartbeats 4000000 in
theorem cs_28 {p : Program} {l : Launch} {e : Env} {s : State} {m : MethodId} {below : List Frame} {meth : Method} {c : Code} {Q : State → Prop} {b L : Nat} {xs : Nat → Int32} {g : zG} {xo mo oa : Nat} {ma : Nat → Nat} (C0 : zFx p l s m c b L xs g) {t : Nat} (ht : 5 * t + 5 ≤ L) {S : zS} {X : zX} (hI : zIv t S X) {f : Nat → Int64} {H : Heap} {locs : List Loc} {cells slots : Nat} (hcells : cells + 100 ≤ 1200384) (hslots : slots + 2000 ≤ 5488298) (hw : zLw g (fun q : Nat => s.heap.size ≤ q) xo mo oa ma S X X f H) (hS : va_S (fun q : Nat => s.heap.size ≤ q) s.heap H locs) {ls : Array Slot} (hl : lv_has ls 7 [(4, .int (nI (5 * t))), (0, .ref b), (1, .ref xo), (2, .ref mo), (3, .ref oa)]) (K : zKt p l e s m below meth c b g xo mo oa ma t (cells + 100) (slots + 2000) Q) : W p l e room_1 s m #[Value.ref b] below meth c H locs cells slots Q (F0 m 1919 ls []) := by
  obtain ⟨hL, hl0, hx, hb, hml, hown, hts, hX, hbl, hK⟩ := C0
  have hbA : ¬ (fun q : Nat => s.heap.size ≤ q) b := Nat.not_le.mpr hbl
  obtain ⟨T, As, Am, hT, hoa, hY, hA0, hM, hAs, hAm, hdj⟩ := hw
  subst hA0
  have ht99 : t ≤ 99 := by omega
  refine lv_aload_n hx hb dL_law_1919 rfl (lv_at hl 2 rfl) ?_
  obtain ⟨hp0, hpI⟩ := zp_plan hI
  refine zl_mod (As := []) (rest := []) ⟨hx, hb, hml, hown, hts⟩ (ct_X1_plan l g (fun q => As q ∧ q ≠ oa) S X T hY hI.qu.wo hI.qu.1.2.2 (fun _ => (hI.sr true).1)) zn_X1_plan (lw_V q209 q210 q211 q39 q212) rfl (Nat.le_of_ble_eq_true rfl) (Nat.le_of_ble_eq_true rfl) hK (fun q h => hAs q h.1) hS (hT.split hoa) (zt_recv hK.1 (hT.split hoa) hY.w rfl) rfl hl.1 (Nat.le_of_ble_eq_true rfl) dL_law_1920 ⟨by show _ + 0 ≤ 1200384; omega, by show _ + 0 ≤ 5488298; omega⟩ (fun r u H1 locs1 hp hT1 hz hkk hS1 => ?_)
  obtain ⟨⟨hr, -⟩, hY1, s3, hu⟩ := hp
  have hI1 : zIv (t + 1) u.1 (m_plan X).2 := by rw [hu]; exact hpI s3
  have hA1 : u.1.A 0 = S.A 0 := by rw [hu]; rfl
  obtain ⟨hT2, hn1⟩ := zTH.join hT hT1 (hkk oa (hT.lt (va_up_self _ _ _)) (fun z => z.2 rfl))
  have hw := zLw.sys (B := fun q : Nat => s.heap.size ≤ q) hT hM hAs hAm hdj hT2 hn1 hY1 hA1 hz (fun q h1 h2 => hkk q h1 (fun z => h2 z.1))
  obtain ⟨T, As, Am, hT, hoa, hY, hA0, hM, hAs, hAm, hdj⟩ := hw
  have hS := hS1
  subst hr
  refine lv_aload_n hx hb dL_law_1923 rfl (lv_at hl 3 rfl) ?_
  refine zl_mod (As := []) (rest := [.int ((m_plan X).1)]) ⟨hx, hb, hml, hown, hts⟩ (ct_X3_plan l g Am mo ma X hI.n60 hI.w26 hI.mq) zn_X3_plan (lw_V q1338 q1339 q1340 q48 q1341) rfl (Nat.le_of_ble_eq_true rfl) (Nat.le_of_ble_eq_true rfl) hK hAm hS hM (zx_recv (hK.narrow hAm) hM) rfl hl.1 (Nat.le_of_ble_eq_true rfl) dL_law_1924 ⟨by show _ + 0 ≤ 1200384; omega, by show _ + 0 ≤ 5488298; omega⟩ (fun r2 u H1 locs1 hp hM1 hz hkk hS1 => ?_)
  subst hp
  have hw := zLw.mod (B := fun q : Nat => s.heap.size ≤ q) hT hoa hY hA0 hM hAs hAm hdj hM1 hz hkk
  obtain ⟨T, As, Am, hT, hoa, hY, hA0, hM, hAs, hAm, hdj⟩ := hw
  have hS := hS1
  have hw : zLw g (fun q : Nat => s.heap.size ≤ q) (S.A 0) mo oa ma _ _ _ _ _ := ⟨T, As, Am, hT, hoa, hY, hA0, hM, hAs, hAm, hdj⟩
  refine lv_icmp_eq (tgt := 2013) hx hb dL_law_1927 (by decide) (fun _ => ?_) (fun z => absurd rfl z)
  refine W.widen (k := cells + 100) (n := slots + 2000) (by omega) (by omega) ?_
  exact K _ _ _ _ _ _ hI1 hw hS (lv_sub hl [0, 1, 2, 3, 4] rfl)
set_option maxHeartbeats 4000000 in
theorem cs_29 {p : Program} {l : Launch} {e : Env} {s : State} {m : MethodId} {below : List Frame} {meth : Method} {c : Code} {Q : State → Prop} {b L : Nat} {xs : Nat → Int32} {g : zG} {xo mo oa : Nat} {ma : Nat → Nat} (C0 : zFx p l s m c b L xs g) {t : Nat} (ht : 5 * t + 5 ≤ L) {S : zS} {X : zX} (hI : zIv t S X) {f : Nat → Int64} {H : Heap} {locs : List Loc} {cells slots : Nat} (hcells : cells + 100 ≤ 1200384) (hslots : slots + 2000 ≤ 5488298) (hw : zLw g (fun q : Nat => s.heap.size ≤ q) xo mo oa ma S X X f H) (hS : va_S (fun q : Nat => s.heap.size ≤ q) s.heap H locs) {ls : Array Slot} (hl : lv_has ls 7 [(4, .int (nI (5 * t))), (0, .ref b), (1, .ref xo), (2, .ref mo), (3, .ref oa)]) (K : zKt p l e s m below meth c b g xo mo oa ma t (cells + 100) (slots + 2000) Q) : W p l e room_1 s m #[Value.ref b] below meth c H locs cells slots Q (F0 m 1932 ls []) := by
  obtain ⟨hL, hl0, hx, hb, hml, hown, hts, hX, hbl, hK⟩ := C0
  have hbA : ¬ (fun q : Nat => s.heap.size ≤ q) b := Nat.not_le.mpr hbl
  obtain ⟨T, As, Am, hT, hoa, hY, hA0, hM, hAs, hAm, hdj⟩ := hw
  subst hA0
  have ht99 : t ≤ 99 := by omega
  refine lv_aload_n hx hb dL_law_1932 rfl (lv_at hl 2 rfl) ?_
  obtain ⟨hp0, hpI⟩ := zp_plan hI
  refine zl_mod (As := []) (rest := []) ⟨hx, hb, hml, hown, hts⟩ (ct_X1_planAnew l g (fun q => As q ∧ q ≠ oa) S X T hY hI.qu.wo hI.qu.1.2.2 (fun _ => (hI.sr false).1)) zn_X1_planAnew (lw_V q249 q250 q251 q39 q252) rfl (Nat.le_of_ble_eq_true rfl) (Nat.le_of_ble_eq_true rfl) hK (fun q h => hAs q h.1) hS (hT.split hoa) (zt_recv hK.1 (hT.split hoa) hY.w rfl) rfl hl.1 (Nat.le_of_ble_eq_true rfl) dL_law_1933 ⟨by show _ + 0 ≤ 1200384; omega, by show _ + 0 ≤ 5488298; omega⟩ (fun r u H1 locs1 hp hT1 hz hkk hS1 => ?_)
  obtain ⟨⟨hr, -⟩, hY1, s3, hu⟩ := hp
  have hI1 : zIv (t + 1) u.1 (m_plan X).2 := by rw [hu]; exact hpI s3
  have hA1 : u.1.A 0 = S.A 0 := by rw [hu]; rfl
  obtain ⟨hT2, hn1⟩ := zTH.join hT hT1 (hkk oa (hT.lt (va_up_self _ _ _)) (fun z => z.2 rfl))
  have hw := zLw.sys (B := fun q : Nat => s.heap.size ≤ q) hT hM hAs hAm hdj hT2 hn1 hY1 hA1 hz (fun q h1 h2 => hkk q h1 (fun z => h2 z.1))
  obtain ⟨T, As, Am, hT, hoa, hY, hA0, hM, hAs, hAm, hdj⟩ := hw
  have hS := hS1
  subst hr
  refine lv_aload_n hx hb dL_law_1936 rfl (lv_at hl 3 rfl) ?_
  refine zl_mod (As := []) (rest := [.int ((m_plan X).1)]) ⟨hx, hb, hml, hown, hts⟩ (ct_X3_planAnew l g Am mo ma X hI.n60 hI.w26 hI.mq) zn_X3_planAnew (lw_V q1342 q1343 q1344 q48 q1345) rfl (Nat.le_of_ble_eq_true rfl) (Nat.le_of_ble_eq_true rfl) hK hAm hS hM (zx_recv (hK.narrow hAm) hM) rfl hl.1 (Nat.le_of_ble_eq_true rfl) dL_law_1937 ⟨by show _ + 0 ≤ 1200384; omega, by show _ + 0 ≤ 5488298; omega⟩ (fun r2 u H1 locs1 hp hM1 hz hkk hS1 => ?_)
  subst hp
  have hw := zLw.mod (B := fun q : Nat => s.heap.size ≤ q) hT hoa hY hA0 hM hAs hAm hdj hM1 hz hkk
  obtain ⟨T, As, Am, hT, hoa, hY, hA0, hM, hAs, hAm, hdj⟩ := hw
  have hS := hS1
  have hw : zLw g (fun q : Nat => s.heap.size ≤ q) (S.A 0) mo oa ma _ _ _ _ _ := ⟨T, As, Am, hT, hoa, hY, hA0, hM, hAs, hAm, hdj⟩
  refine lv_icmp_eq (tgt := 2013) hx hb dL_law_1940 (by decide) (fun _ => ?_) (fun z => absurd rfl z)
  refine W.widen (k := cells + 100) (n := slots + 2000) (by omega) (by omega) ?_
  exact K _ _ _ _ _ _ hI1 hw hS (lv_sub hl [0, 1, 2, 3, 4] rfl)
set_option maxHeartbeats 4000000 in
theorem cs_30 {p : Program} {l : Launch} {e : Env} {s : State} {m : MethodId} {below : List Frame} {meth : Method} {c : Code} {Q : State → Prop} {b L : Nat} {xs : Nat → Int32} {g : zG} {xo mo oa : Nat} {ma : Nat → Nat} (C0 : zFx p l s m c b L xs g) {t : Nat} (ht : 5 * t + 5 ≤ L) {S : zS} {X : zX} (hI : zIv t S X) {f : Nat → Int64} {H : Heap} {locs : List Loc} {cells slots : Nat} (hcells : cells + 100 ≤ 1200384) (hslots : slots + 2000 ≤ 5488298) (hw : zLw g (fun q : Nat => s.heap.size ≤ q) xo mo oa ma S X X f H) (hS : va_S (fun q : Nat => s.heap.size ≤ q) s.heap H locs) {ls : Array Slot} (hl : lv_has ls 7 [(4, .int (nI (5 * t))), (0, .ref b), (1, .ref xo), (2, .ref mo), (3, .ref oa)]) (K : zKt p l e s m below meth c b g xo mo oa ma t (cells + 100) (slots + 2000) Q) : W p l e room_1 s m #[Value.ref b] below meth c H locs cells slots Q (F0 m 1945 ls []) := by
  obtain ⟨hL, hl0, hx, hb, hml, hown, hts, hX, hbl, hK⟩ := C0
  have hbA : ¬ (fun q : Nat => s.heap.size ≤ q) b := Nat.not_le.mpr hbl
  obtain ⟨T, As, Am, hT, hoa, hY, hA0, hM, hAs, hAm, hdj⟩ := hw
  subst hA0
  have ht99 : t ≤ 99 := by omega
  refine lv_aload_n hx hb dL_law_1945 rfl (lv_at hl 2 rfl) ?_
  refine lv_aload_n hx hb dL_law_1946 rfl (lv_at hl 1 rfl) ?_
  refine lv_iload hx hb dL_law_1947 (lv_at hl 0 rfl) ?_
  refine lv_iconst (v := 1) hx hb dL_law_1949 (by decide) ?_
  refine lv_iadd hx hb dL_law_1950 ?_
  refine zm_topi (y := nI (5 * t + 1)) (nI_add (5 * t) 1) ?_
  refine va_sld hx hb hX hbl hbA hS (vp_in_nI (n := 5 * t + 1) (N := L) (by omega) (by omega)) dL_law_1951 ?_
  refine zm_topi (y := xs (5 * t + 1)) (congrArg xs (nI_clamp (n := 5 * t + 1) (by omega))) ?_
  refine lv_aload_n hx hb dL_law_1952 rfl (lv_at hl 1 rfl) ?_
  refine lv_iload hx hb dL_law_1953 (lv_at hl 0 rfl) ?_
  refine lv_iconst (v := 2) hx hb dL_law_1955 (by decide) ?_
  refine lv_iadd hx hb dL_law_1956 ?_
  refine zm_topi (y := nI (5 * t + 2)) (nI_add (5 * t) 2) ?_
  refine va_sld hx hb hX hbl hbA hS (vp_in_nI (n := 5 * t + 2) (N := L) (by omega) (by omega)) dL_law_1957 ?_
  refine zm_topi (y := xs (5 * t + 2)) (congrArg xs (nI_clamp (n := 5 * t + 2) (by omega))) ?_
  refine lv_aload_n hx hb dL_law_1958 rfl (lv_at hl 4 rfl) ?_
  refine zl_sys (As := [.ref (S.A 0), .int (xs (5 * t + 1)), .int (xs (5 * t + 2)), .ref oa]) (rest := []) ⟨hx, hb, hml, hown, hts⟩ (ct_X0_road l hl0 g As S X T hY oa f hoa hI.qu.wo hI.qu.rl hI.qu.re (xs (5 * t + 1)) (xs (5 * t + 2))) zn_X0_road (lw_SW q1008 q1009 q38 q1010) (Nat.le_of_ble_eq_true rfl) (Nat.le_of_ble_eq_true rfl) hK hAs hS hT rfl hl.1 (Nat.le_of_ble_eq_true rfl) dL_law_1959 ⟨by show _ + 1 ≤ 1200384; omega, by show _ + 6 ≤ 5488298; omega⟩ (fun r u H1 locs1 hp hT1 hz hkk hS1 => ?_)
  obtain ⟨hr, hn1, hp⟩ := hp
  obtain ⟨hI1, hA1, hY1, hv1⟩ := zStep.out (zp_road hI (xs (5 * t + 1)) (xs (5 * t + 2))) hI hr hp
  have hw := zLw.sys (B := fun q : Nat => s.heap.size ≤ q) hT hM hAs hAm hdj hT1 hn1 hY1 hA1 hz hkk
  obtain ⟨T, As, Am, hT, hoa, hY, hA0, hM, hAs, hAm, hdj⟩ := hw
  have hS := hS1
  refine lv_istore (lv' := [(5, .int r), (4, .int (nI (5 * t))), (0, .ref b), (1, .ref (S.A 0)), (2, .ref mo), (3, .ref oa)]) hx hb dL_law_1962 hl (by decide) rfl (fun ls hl => ?_)
  refine lv_aload_n hx hb dL_law_1964 rfl (lv_at hl 4 rfl) ?_
  refine lv_aload_n hx hb dL_law_1965 rfl (lv_at hl 2 rfl) ?_
  refine lv_iload hx hb dL_law_1966 (lv_at hl 1 rfl) ?_
  refine lv_iconst (v := 1) hx hb dL_law_1968 (by decide) ?_
  refine lv_iadd hx hb dL_law_1969 ?_
  refine zm_topi (y := nI (5 * t + 1)) (nI_add (5 * t) 1) ?_
  refine va_sld hx hb hX hbl hbA hS (vp_in_nI (n := 5 * t + 1) (N := L) (by omega) (by omega)) dL_law_1970 ?_
  refine zm_topi (y := xs (5 * t + 1)) (congrArg xs (nI_clamp (n := 5 * t + 1) (by omega))) ?_
  refine lv_aload_n hx hb dL_law_1971 rfl (lv_at hl 2 rfl) ?_
  refine lv_iload hx hb dL_law_1972 (lv_at hl 1 rfl) ?_
  refine lv_iconst (v := 2) hx hb dL_law_1974 (by decide) ?_
  refine lv_iadd hx hb dL_law_1975 ?_
  refine zm_topi (y := nI (5 * t + 2)) (nI_add (5 * t) 2) ?_
  refine va_sld hx hb hX hbl hbA hS (vp_in_nI (n := 5 * t + 2) (N := L) (by omega) (by omega)) dL_law_1976 ?_
  refine zm_topi (y := xs (5 * t + 2)) (congrArg xs (nI_clamp (n := 5 * t + 2) (by omega))) ?_
  refine zl_mod (As := [.int (xs (5 * t + 1)), .int (xs (5 * t + 2))]) (rest := []) ⟨hx, hb, hml, hown, hts⟩ (ct_X3_road l g Am mo ma X (xs (5 * t + 1)) (xs (5 * t + 2)) hI.mr) zn_X3_road (lw_V q1346 q1347 q1348 q48 q1349) rfl (Nat.le_of_ble_eq_true rfl) (Nat.le_of_ble_eq_true rfl) hK hAm hS hM (zx_recv (hK.narrow hAm) hM) rfl hl.1 (Nat.le_of_ble_eq_true rfl) dL_law_1977 ⟨by show _ + 0 ≤ 1200384; omega, by show _ + 0 ≤ 5488298; omega⟩ (fun r2 u H1 locs1 hp hM1 hz hkk hS1 => ?_)
  subst hp
  have hw := zLw.mod (B := fun q : Nat => s.heap.size ≤ q) hT hoa hY hA0 hM hAs hAm hdj hM1 hz hkk
  obtain ⟨T, As, Am, hT, hoa, hY, hA0, hM, hAs, hAm, hdj⟩ := hw
  have hS := hS1
  refine lv_istore (lv' := [(6, .int ((m_road X (xs (5 * t + 1)) (xs (5 * t + 2))).1)), (5, .int r), (4, .int (nI (5 * t))), (0, .ref b), (1, .ref (S.A 0)), (2, .ref mo), (3, .ref oa)]) hx hb dL_law_1980 hl (by decide) rfl (fun ls hl => ?_)
  refine lv_aload_n hx hb dL_law_1982 rfl (lv_at hl 5 rfl) ?_
  refine zl_mod (As := []) (rest := []) ⟨hx, hb, hml, hown, hts⟩ (ct_X3_thrown l g Am mo ma (m_road X (xs (5 * t + 1)) (xs (5 * t + 2))).2) zn_X3_thrown (lw_V q1122 q1123 q1124 q48 q1125) rfl (Nat.le_of_ble_eq_true rfl) (Nat.le_of_ble_eq_true rfl) hK hAm hS hM (zx_recv (hK.narrow hAm) hM) rfl hl.1 (Nat.le_of_ble_eq_true rfl) dL_law_1983 ⟨by show _ + 0 ≤ 1200384; omega, by show _ + 0 ≤ 5488298; omega⟩ (fun r2 u H1 locs1 hp hM1 hz hkk hS1 => ?_)
  subst hp
  have hw := zLw.mod (B := fun q : Nat => s.heap.size ≤ q) hT hoa hY hA0 hM hAs hAm hdj hM1 hz hkk
  obtain ⟨T, As, Am, hT, hoa, hY, hA0, hM, hAs, hAm, hdj⟩ := hw
  have hS := hS1
  have hw : zLw g (fun q : Nat => s.heap.size ≤ q) (S.A 0) mo oa ma _ _ _ _ _ := ⟨T, As, Am, hT, hoa, hY, hA0, hM, hAs, hAm, hdj⟩
  refine lv_iload hx hb dL_law_1986 (lv_at hl 1 rfl) ?_
  refine lv_icmp_eq (tgt := 1993) hx hb dL_law_1988 (by decide) (fun _ => ?_) (fun z => absurd hr.symm z)
  refine lv_iload hx hb dL_law_1993 (lv_at hl 1 rfl) ?_
  refine lv_if_ne (tgt := 2010) hx hb dL_law_1995 (by decide) (fun _ => ?_) (fun c0 => ?_)
  · refine lv_goto (tgt := 2013) hx hb dL_law_2010 (by decide) ?_
    refine W.widen (k := cells + 100) (n := slots + 2000) (by omega) (by omega) ?_
    exact K _ _ _ _ _ _ hI1 hw hS (lv_sub hl [2, 3, 4, 5, 6] rfl)
  · refine lv_aload_n hx hb dL_law_1998 rfl (lv_at hl 6 rfl) ?_
    refine lv_iconst (v := 0) hx hb dL_law_1999 (by decide) ?_
    refine zt_lld (k := 0) hx hb hK.1 hT (va_up_self _ _ _) (by decide) (by decide) dL_law_2000 ?_
    refine lv_iload hx hb dL_law_2001 (lv_at hl 0 rfl) ?_
    refine lv_i2l hx hb dL_law_2003 rfl ?_
    refine W.lcmp hx hb dL_law_2004 ?_
    refine zm_topi (y := 0) (zcmp0 (hv1 c0)) ?_
    refine lv_if_eq (tgt := 2010) hx hb dL_law_2005 (by decide) (fun _ => ?_) (fun z => absurd rfl z)
    refine lv_goto (tgt := 2013) hx hb dL_law_2010 (by decide) ?_
    refine W.widen (k := cells + 100) (n := slots + 2000) (by omega) (by omega) ?_
    exact K _ _ _ _ _ _ hI1 hw hS (lv_sub hl [2, 3, 4, 5, 6] rfl)
