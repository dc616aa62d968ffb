set_option maxHeartbeats 4000000 in
theorem cs_0 {p : Program} {l : Launch} {e : Env} {s : State} {m : MethodId} {below : List Frame} {meth : Method} {c : Code} {Q : State → Prop} {b L : Nat} {xs : Nat → Int32} {g : zG} {xo mo oa : Nat} {ma : Nat → Nat} (C0 : zFx p l s m c b L xs g) {t : Nat} (ht : 5 * t + 5 ≤ L) {S : zS} {X : zX} (hI : zIv t S X) {f : Nat → Int64} {H : Heap} {locs : List Loc} {cells slots : Nat} (hcells : cells + 100 ≤ 1200384) (hslots : slots + 2000 ≤ 5488298) (hw : zLw g (fun q : Nat => s.heap.size ≤ q) xo mo oa ma S X X f H) (hS : va_S (fun q : Nat => s.heap.size ≤ q) s.heap H locs) {ls : Array Slot} (hl : lv_has ls 7 [(4, .int (nI (5 * t))), (0, .ref b), (1, .ref xo), (2, .ref mo), (3, .ref oa)]) (K : zKt p l e s m below meth c b g xo mo oa ma t (cells + 100) (slots + 2000) Q) : W p l e room_1 s m #[Value.ref b] below meth c H locs cells slots Q (F0 m 176 ls []) := by
  obtain ⟨hL, hl0, hx, hb, hml, hown, hts, hX, hbl, hK⟩ := C0
  have hbA : ¬ (fun q : Nat => s.heap.size ≤ q) b := Nat.not_le.mpr hbl
  obtain ⟨T, As, Am, hT, hoa, hY, hA0, hM, hAs, hAm, hdj⟩ := hw
  subst hA0
  have ht99 : t ≤ 99 := by omega
  refine lv_aload_n hx hb dL_law_176 rfl (lv_at hl 2 rfl) ?_
  refine lv_aload_n hx hb dL_law_177 rfl (lv_at hl 1 rfl) ?_
  refine lv_iload hx hb dL_law_178 (lv_at hl 0 rfl) ?_
  refine lv_iconst (v := 1) hx hb dL_law_180 (by decide) ?_
  refine lv_iadd hx hb dL_law_181 ?_
  refine zm_topi (y := nI (5 * t + 1)) (nI_add (5 * t) 1) ?_
  refine va_sld hx hb hX hbl hbA hS (vp_in_nI (n := 5 * t + 1) (N := L) (by omega) (by omega)) dL_law_182 ?_
  refine zm_topi (y := xs (5 * t + 1)) (congrArg xs (nI_clamp (n := 5 * t + 1) (by omega))) ?_
  refine lv_aload_n hx hb dL_law_183 rfl (lv_at hl 1 rfl) ?_
  refine lv_iload hx hb dL_law_184 (lv_at hl 0 rfl) ?_
  refine lv_iconst (v := 2) hx hb dL_law_186 (by decide) ?_
  refine lv_iadd hx hb dL_law_187 ?_
  refine zm_topi (y := nI (5 * t + 2)) (nI_add (5 * t) 2) ?_
  refine va_sld hx hb hX hbl hbA hS (vp_in_nI (n := 5 * t + 2) (N := L) (by omega) (by omega)) dL_law_188 ?_
  refine zm_topi (y := xs (5 * t + 2)) (congrArg xs (nI_clamp (n := 5 * t + 2) (by omega))) ?_
  refine lv_aload_n hx hb dL_law_189 rfl (lv_at hl 1 rfl) ?_
  refine lv_iload hx hb dL_law_190 (lv_at hl 0 rfl) ?_
  refine lv_iconst (v := 3) hx hb dL_law_192 (by decide) ?_
  refine lv_iadd hx hb dL_law_193 ?_
  refine zm_topi (y := nI (5 * t + 3)) (nI_add (5 * t) 3) ?_
  refine va_sld hx hb hX hbl hbA hS (vp_in_nI (n := 5 * t + 3) (N := L) (by omega) (by omega)) dL_law_194 ?_
  refine zm_topi (y := xs (5 * t + 3)) (congrArg xs (nI_clamp (n := 5 * t + 3) (by omega))) ?_
  refine lv_aload_n hx hb dL_law_195 rfl (lv_at hl 4 rfl) ?_
  refine zl_sys (As := [.ref (S.A 0), .int (xs (5 * t + 1)), .int (xs (5 * t + 2)), .int (xs (5 * t + 3)), .ref oa]) (rest := []) ⟨hx, hb, hml, hown, hts⟩ (ct_X0_part l hl0 g As S X T hY oa f hoa hI.I hI.1.ko (hI.to ht99) (hI.lo ht99) hI.qu.wo hI.2.1.2.1 (xs (5 * t + 1)) (xs (5 * t + 2)) (xs (5 * t + 3))) zn_X0_part (lw_SW q253 q254 q38 q255) (Nat.le_of_ble_eq_true rfl) (Nat.le_of_ble_eq_true rfl) hK hAs hS hT rfl hl.1 (Nat.le_of_ble_eq_true rfl) dL_law_196 ⟨by show _ + 7 ≤ 1200384; omega, by show _ + 200 ≤ 5488298; omega⟩ (fun r u H1 locs1 hp hT1 hz hkk hS1 => ?_)
  obtain ⟨hr, hn1, hp⟩ := hp
  obtain ⟨hI1, hA1, hY1, hv1⟩ := zStep.out (zp_part hI (xs (5 * t + 1)) (xs (5 * t + 2)) (xs (5 * t + 3))) hI hr hp
  have hw := zLw.sys (B := fun q : Nat => s.heap.size ≤ q) hT hM hAs hAm hdj hT1 hn1 hY1 hA1 hz hkk
  obtain ⟨T, As, Am, hT, hoa, hY, hA0, hM, hAs, hAm, hdj⟩ := hw
  have hS := hS1
  refine lv_istore (lv' := [(5, .int r), (4, .int (nI (5 * t))), (0, .ref b), (1, .ref (S.A 0)), (2, .ref mo), (3, .ref oa)]) hx hb dL_law_199 hl (by decide) rfl (fun ls hl => ?_)
  refine lv_aload_n hx hb dL_law_201 rfl (lv_at hl 4 rfl) ?_
  refine lv_aload_n hx hb dL_law_202 rfl (lv_at hl 2 rfl) ?_
  refine lv_iload hx hb dL_law_203 (lv_at hl 1 rfl) ?_
  refine lv_iconst (v := 1) hx hb dL_law_205 (by decide) ?_
  refine lv_iadd hx hb dL_law_206 ?_
  refine zm_topi (y := nI (5 * t + 1)) (nI_add (5 * t) 1) ?_
  refine va_sld hx hb hX hbl hbA hS (vp_in_nI (n := 5 * t + 1) (N := L) (by omega) (by omega)) dL_law_207 ?_
  refine zm_topi (y := xs (5 * t + 1)) (congrArg xs (nI_clamp (n := 5 * t + 1) (by omega))) ?_
  refine lv_aload_n hx hb dL_law_208 rfl (lv_at hl 2 rfl) ?_
  refine lv_iload hx hb dL_law_209 (lv_at hl 1 rfl) ?_
  refine lv_iconst (v := 2) hx hb dL_law_211 (by decide) ?_
  refine lv_iadd hx hb dL_law_212 ?_
  refine zm_topi (y := nI (5 * t + 2)) (nI_add (5 * t) 2) ?_
  refine va_sld hx hb hX hbl hbA hS (vp_in_nI (n := 5 * t + 2) (N := L) (by omega) (by omega)) dL_law_213 ?_
  refine zm_topi (y := xs (5 * t + 2)) (congrArg xs (nI_clamp (n := 5 * t + 2) (by omega))) ?_
  refine lv_aload_n hx hb dL_law_214 rfl (lv_at hl 2 rfl) ?_
  refine lv_iload hx hb dL_law_215 (lv_at hl 1 rfl) ?_
  refine lv_iconst (v := 3) hx hb dL_law_217 (by decide) ?_
  refine lv_iadd hx hb dL_law_218 ?_
  refine zm_topi (y := nI (5 * t + 3)) (nI_add (5 * t) 3) ?_
  refine va_sld hx hb hX hbl hbA hS (vp_in_nI (n := 5 * t + 3) (N := L) (by omega) (by omega)) dL_law_219 ?_
  refine zm_topi (y := xs (5 * t + 3)) (congrArg xs (nI_clamp (n := 5 * t + 3) (by omega))) ?_
  refine zl_mod (As := [.int (xs (5 * t + 1)), .int (xs (5 * t + 2)), .int (xs (5 * t + 3))]) (rest := []) ⟨hx, hb, hml, hown, hts⟩ (ct_X3_part l g Am mo ma X (xs (5 * t + 1)) (xs (5 * t + 2)) (xs (5 * t + 3)) hI.I) zn_X3_part (lw_V q1126 q1127 q1128 q48 q1129) rfl (Nat.le_of_ble_eq_true rfl) (Nat.le_of_ble_eq_true rfl) hK hAm hS hM (zx_recv (hK.narrow hAm) hM) rfl hl.1 (Nat.le_of_ble_eq_true rfl) dL_law_220 ⟨by show _ + 0 ≤ 1200384; omega, by show _ + 0 ≤ 5488298; omega⟩ (fun r2 u H1 locs1 hp hM1 hz hkk hS1 => ?_)
  subst hp
  have hw := zLw.mod (B := fun q : Nat => s.heap.size ≤ q) hT hoa hY hA0 hM hAs hAm hdj hM1 hz hkk
  obtain ⟨T, As, Am, hT, hoa, hY, hA0, hM, hAs, hAm, hdj⟩ := hw
  have hS := hS1
  refine lv_istore (lv' := [(6, .int ((m_part X (xs (5 * t + 1)) (xs (5 * t + 2)) (xs (5 * t + 3))).1)), (5, .int r), (4, .int (nI (5 * t))), (0, .ref b), (1, .ref (S.A 0)), (2, .ref mo), (3, .ref oa)]) hx hb dL_law_223 hl (by decide) rfl (fun ls hl => ?_)
  refine lv_aload_n hx hb dL_law_225 rfl (lv_at hl 5 rfl) ?_
  refine zl_mod (As := []) (rest := []) ⟨hx, hb, hml, hown, hts⟩ (ct_X3_thrown l g Am mo ma (m_part X (xs (5 * t + 1)) (xs (5 * t + 2)) (xs (5 * t + 3))).2) zn_X3_thrown (lw_V q1122 q1123 q1124 q48 q1125) rfl (Nat.le_of_ble_eq_true rfl) (Nat.le_of_ble_eq_true rfl) hK hAm hS hM (zx_recv (hK.narrow hAm) hM) rfl hl.1 (Nat.le_of_ble_eq_true rfl) dL_law_226 ⟨by show _ + 0 ≤ 1200384; omega, by show _ + 0 ≤ 5488298; omega⟩ (fun r2 u H1 locs1 hp hM1 hz hkk hS1 => ?_)
  subst hp
  have hw := zLw.mod (B := fun q : Nat => s.heap.size ≤ q) hT hoa hY hA0 hM hAs hAm hdj hM1 hz hkk
  obtain ⟨T, As, Am, hT, hoa, hY, hA0, hM, hAs, hAm, hdj⟩ := hw
  have hS := hS1
  have hw : zLw g (fun q : Nat => s.heap.size ≤ q) (S.A 0) mo oa ma _ _ _ _ _ := ⟨T, As, Am, hT, hoa, hY, hA0, hM, hAs, hAm, hdj⟩
  refine lv_iload hx hb dL_law_229 (lv_at hl 1 rfl) ?_
  refine lv_icmp_eq (tgt := 236) hx hb dL_law_231 (by decide) (fun _ => ?_) (fun z => absurd hr.symm z)
  refine lv_iload hx hb dL_law_236 (lv_at hl 1 rfl) ?_
  refine lv_if_ne (tgt := 253) hx hb dL_law_238 (by decide) (fun _ => ?_) (fun c0 => ?_)
  · refine lv_goto (tgt := 2013) hx hb dL_law_253 (by decide) ?_
    refine W.widen (k := cells + 100) (n := slots + 2000) (by omega) (by omega) ?_
    exact K _ _ _ _ _ _ hI1 hw hS (lv_sub hl [2, 3, 4, 5, 6] rfl)
  · refine lv_aload_n hx hb dL_law_241 rfl (lv_at hl 6 rfl) ?_
    refine lv_iconst (v := 0) hx hb dL_law_242 (by decide) ?_
    refine zt_lld (k := 0) hx hb hK.1 hT (va_up_self _ _ _) (by decide) (by decide) dL_law_243 ?_
    refine lv_iload hx hb dL_law_244 (lv_at hl 0 rfl) ?_
    refine lv_i2l hx hb dL_law_246 rfl ?_
    refine W.lcmp hx hb dL_law_247 ?_
    refine zm_topi (y := 0) (zcmp0 (hv1 c0)) ?_
    refine lv_if_eq (tgt := 253) hx hb dL_law_248 (by decide) (fun _ => ?_) (fun z => absurd rfl z)
    refine lv_goto (tgt := 2013) hx hb dL_law_253 (by decide) ?_
    refine W.widen (k := cells + 100) (n := slots + 2000) (by omega) (by omega) ?_
    exact K _ _ _ _ _ _ hI1 hw hS (lv_sub hl [2, 3, 4, 5, 6] rfl)
set_option maxHeartbeats 4000000 in
theorem cs_1 {p : Program} {l : Launch} {e : Env} {s : State} {m : MethodId} {below : List Frame} {meth : Method} {c : Code} {Q : State → Prop} {b L : Nat} {xs : Nat → Int32} {g : zG} {xo mo oa : Nat} {ma : Nat → Nat} (C0 : zFx p l s m c b L xs g) {t : Nat} (ht : 5 * t + 5 ≤ L) {S : zS} {X : zX} (hI : zIv t S X) {f : Nat → Int64} {H : Heap} {locs : List Loc} {cells slots : Nat} (hcells : cells + 100 ≤ 1200384) (hslots : slots + 2000 ≤ 5488298) (hw : zLw g (fun q : Nat => s.heap.size ≤ q) xo mo oa ma S X X f H) (hS : va_S (fun q : Nat => s.heap.size ≤ q) s.heap H locs) {ls : Array Slot} (hl : lv_has ls 7 [(4, .int (nI (5 * t))), (0, .ref b), (1, .ref xo), (2, .ref mo), (3, .ref oa)]) (K : zKt p l e s m below meth c b g xo mo oa ma t (cells + 100) (slots + 2000) Q) : W p l e room_1 s m #[Value.ref b] below meth c H locs cells slots Q (F0 m 256 ls []) := by
  obtain ⟨hL, hl0, hx, hb, hml, hown, hts, hX, hbl, hK⟩ := C0
  have hbA : ¬ (fun q : Nat => s.heap.size ≤ q) b := Nat.not_le.mpr hbl
  obtain ⟨T, As, Am, hT, hoa, hY, hA0, hM, hAs, hAm, hdj⟩ := hw
  subst hA0
  have ht99 : t ≤ 99 := by omega
  refine lv_aload_n hx hb dL_law_256 rfl (lv_at hl 2 rfl) ?_
  refine lv_aload_n hx hb dL_law_257 rfl (lv_at hl 1 rfl) ?_
  refine lv_iload hx hb dL_law_258 (lv_at hl 0 rfl) ?_
  refine lv_iconst (v := 1) hx hb dL_law_260 (by decide) ?_
  refine lv_iadd hx hb dL_law_261 ?_
  refine zm_topi (y := nI (5 * t + 1)) (nI_add (5 * t) 1) ?_
  refine va_sld hx hb hX hbl hbA hS (vp_in_nI (n := 5 * t + 1) (N := L) (by omega) (by omega)) dL_law_262 ?_
  refine zm_topi (y := xs (5 * t + 1)) (congrArg xs (nI_clamp (n := 5 * t + 1) (by omega))) ?_
  refine lv_aload_n hx hb dL_law_263 rfl (lv_at hl 1 rfl) ?_
  refine lv_iload hx hb dL_law_264 (lv_at hl 0 rfl) ?_
  refine lv_iconst (v := 2) hx hb dL_law_266 (by decide) ?_
  refine lv_iadd hx hb dL_law_267 ?_
  refine zm_topi (y := nI (5 * t + 2)) (nI_add (5 * t) 2) ?_
  refine va_sld hx hb hX hbl hbA hS (vp_in_nI (n := 5 * t + 2) (N := L) (by omega) (by omega)) dL_law_268 ?_
  refine zm_topi (y := xs (5 * t + 2)) (congrArg xs (nI_clamp (n := 5 * t + 2) (by omega))) ?_
  refine lv_aload_n hx hb dL_law_269 rfl (lv_at hl 1 rfl) ?_
  refine lv_iload hx hb dL_law_270 (lv_at hl 0 rfl) ?_
  refine lv_iconst (v := 3) hx hb dL_law_272 (by decide) ?_
  refine lv_iadd hx hb dL_law_273 ?_
  refine zm_topi (y := nI (5 * t + 3)) (nI_add (5 * t) 3) ?_
  refine va_sld hx hb hX hbl hbA hS (vp_in_nI (n := 5 * t + 3) (N := L) (by omega) (by omega)) dL_law_274 ?_
  refine zm_topi (y := xs (5 * t + 3)) (congrArg xs (nI_clamp (n := 5 * t + 3) (by omega))) ?_
  refine lv_aload_n hx hb dL_law_275 rfl (lv_at hl 1 rfl) ?_
  refine lv_iload hx hb dL_law_276 (lv_at hl 0 rfl) ?_
  refine lv_iconst (v := 4) hx hb dL_law_278 (by decide) ?_
  refine lv_iadd hx hb dL_law_279 ?_
  refine zm_topi (y := nI (5 * t + 4)) (nI_add (5 * t) 4) ?_
  refine va_sld hx hb hX hbl hbA hS (vp_in_nI (n := 5 * t + 4) (N := L) (by omega) (by omega)) dL_law_280 ?_
  refine zm_topi (y := xs (5 * t + 4)) (congrArg xs (nI_clamp (n := 5 * t + 4) (by omega))) ?_
  refine lv_aload_n hx hb dL_law_281 rfl (lv_at hl 4 rfl) ?_
  refine zl_sys (As := [.ref (S.A 0), .int (xs (5 * t + 1)), .int (xs (5 * t + 2)), .int (xs (5 * t + 3)), .int (xs (5 * t + 4)), .ref oa]) (rest := []) ⟨hx, hb, hml, hown, hts⟩ (ct_X0_limits l hl0 g As S X T hY oa f hoa (xs (5 * t + 1)) (xs (5 * t + 2)) (xs (5 * t + 3)) (xs (5 * t + 4))) zn_X0_limits (lw_SW q466 q467 q38 q468) (Nat.le_of_ble_eq_true rfl) (Nat.le_of_ble_eq_true rfl) hK hAs hS hT rfl hl.1 (Nat.le_of_ble_eq_true rfl) dL_law_282 ⟨by show _ + 1 ≤ 1200384; omega, by show _ + 6 ≤ 5488298; omega⟩ (fun r u H1 locs1 hp hT1 hz hkk hS1 => ?_)
  obtain ⟨hr, hn1, hp⟩ := hp
  obtain ⟨hI1, hA1, hY1, hv1⟩ := zStep.out (zp_limits hI (xs (5 * t + 1)) (xs (5 * t + 2)) (xs (5 * t + 3)) (xs (5 * t + 4))) hI hr hp
  have hw := zLw.sys (B := fun q : Nat => s.heap.size ≤ q) hT hM hAs hAm hdj hT1 hn1 hY1 hA1 hz hkk
  obtain ⟨T, As, Am, hT, hoa, hY, hA0, hM, hAs, hAm, hdj⟩ := hw
  have hS := hS1
  refine lv_istore (lv' := [(5, .int r), (4, .int (nI (5 * t))), (0, .ref b), (1, .ref (S.A 0)), (2, .ref mo), (3, .ref oa)]) hx hb dL_law_285 hl (by decide) rfl (fun ls hl => ?_)
  refine lv_aload_n hx hb dL_law_287 rfl (lv_at hl 4 rfl) ?_
  refine lv_aload_n hx hb dL_law_288 rfl (lv_at hl 2 rfl) ?_
  refine lv_iload hx hb dL_law_289 (lv_at hl 1 rfl) ?_
  refine lv_iconst (v := 1) hx hb dL_law_291 (by decide) ?_
  refine lv_iadd hx hb dL_law_292 ?_
  refine zm_topi (y := nI (5 * t + 1)) (nI_add (5 * t) 1) ?_
  refine va_sld hx hb hX hbl hbA hS (vp_in_nI (n := 5 * t + 1) (N := L) (by omega) (by omega)) dL_law_293 ?_
  refine zm_topi (y := xs (5 * t + 1)) (congrArg xs (nI_clamp (n := 5 * t + 1) (by omega))) ?_
  refine lv_aload_n hx hb dL_law_294 rfl (lv_at hl 2 rfl) ?_
  refine lv_iload hx hb dL_law_295 (lv_at hl 1 rfl) ?_
  refine lv_iconst (v := 2) hx hb dL_law_297 (by decide) ?_
  refine lv_iadd hx hb dL_law_298 ?_
  refine zm_topi (y := nI (5 * t + 2)) (nI_add (5 * t) 2) ?_
  refine va_sld hx hb hX hbl hbA hS (vp_in_nI (n := 5 * t + 2) (N := L) (by omega) (by omega)) dL_law_299 ?_
  refine zm_topi (y := xs (5 * t + 2)) (congrArg xs (nI_clamp (n := 5 * t + 2) (by omega))) ?_
  refine lv_aload_n hx hb dL_law_300 rfl (lv_at hl 2 rfl) ?_
  refine lv_iload hx hb dL_law_301 (lv_at hl 1 rfl) ?_
  refine lv_iconst (v := 3) hx hb dL_law_303 (by decide) ?_
  refine lv_iadd hx hb dL_law_304 ?_
  refine zm_topi (y := nI (5 * t + 3)) (nI_add (5 * t) 3) ?_
  refine va_sld hx hb hX hbl hbA hS (vp_in_nI (n := 5 * t + 3) (N := L) (by omega) (by omega)) dL_law_305 ?_
  refine zm_topi (y := xs (5 * t + 3)) (congrArg xs (nI_clamp (n := 5 * t + 3) (by omega))) ?_
  refine lv_aload_n hx hb dL_law_306 rfl (lv_at hl 2 rfl) ?_
  refine lv_iload hx hb dL_law_307 (lv_at hl 1 rfl) ?_
  refine lv_iconst (v := 4) hx hb dL_law_309 (by decide) ?_
  refine lv_iadd hx hb dL_law_310 ?_
  refine zm_topi (y := nI (5 * t + 4)) (nI_add (5 * t) 4) ?_
  refine va_sld hx hb hX hbl hbA hS (vp_in_nI (n := 5 * t + 4) (N := L) (by omega) (by omega)) dL_law_311 ?_
  refine zm_topi (y := xs (5 * t + 4)) (congrArg xs (nI_clamp (n := 5 * t + 4) (by omega))) ?_
  refine zl_mod (As := [.int (xs (5 * t + 1)), .int (xs (5 * t + 2)), .int (xs (5 * t + 3)), .int (xs (5 * t + 4))]) (rest := []) ⟨hx, hb, hml, hown, hts⟩ (ct_X3_limits l g Am mo ma X (xs (5 * t + 1)) (xs (5 * t + 2)) (xs (5 * t + 3)) (xs (5 * t + 4))) zn_X3_limits (lw_V q1133 q1134 q1135 q48 q1136) rfl (Nat.le_of_ble_eq_true rfl) (Nat.le_of_ble_eq_true rfl) hK hAm hS hM (zx_recv (hK.narrow hAm) hM) rfl hl.1 (Nat.le_of_ble_eq_true rfl) dL_law_312 ⟨by show _ + 0 ≤ 1200384; omega, by show _ + 0 ≤ 5488298; omega⟩ (fun r2 u H1 locs1 hp hM1 hz hkk hS1 => ?_)
  subst hp
  have hw := zLw.mod (B := fun q : Nat => s.heap.size ≤ q) hT hoa hY hA0 hM hAs hAm hdj hM1 hz hkk
  obtain ⟨T, As, Am, hT, hoa, hY, hA0, hM, hAs, hAm, hdj⟩ := hw
  have hS := hS1
  refine lv_istore (lv' := [(6, .int ((m_limits X (xs (5 * t + 1)) (xs (5 * t + 2)) (xs (5 * t + 3)) (xs (5 * t + 4))).1)), (5, .int r), (4, .int (nI (5 * t))), (0, .ref b), (1, .ref (S.A 0)), (2, .ref mo), (3, .ref oa)]) hx hb dL_law_315 hl (by decide) rfl (fun ls hl => ?_)
  refine lv_aload_n hx hb dL_law_317 rfl (lv_at hl 5 rfl) ?_
  refine zl_mod (As := []) (rest := []) ⟨hx, hb, hml, hown, hts⟩ (ct_X3_thrown l g Am mo ma (m_limits X (xs (5 * t + 1)) (xs (5 * t + 2)) (xs (5 * t + 3)) (xs (5 * t + 4))).2) zn_X3_thrown (lw_V q1122 q1123 q1124 q48 q1125) rfl (Nat.le_of_ble_eq_true rfl) (Nat.le_of_ble_eq_true rfl) hK hAm hS hM (zx_recv (hK.narrow hAm) hM) rfl hl.1 (Nat.le_of_ble_eq_true rfl) dL_law_318 ⟨by show _ + 0 ≤ 1200384; omega, by show _ + 0 ≤ 5488298; omega⟩ (fun r2 u H1 locs1 hp hM1 hz hkk hS1 => ?_)
  subst hp
  have hw := zLw.mod (B := fun q : Nat => s.heap.size ≤ q) hT hoa hY hA0 hM hAs hAm hdj hM1 hz hkk
  obtain ⟨T, As, Am, hT, hoa, hY, hA0, hM, hAs, hAm, hdj⟩ := hw
  have hS := hS1
  have hw : zLw g (fun q : Nat => s.heap.size ≤ q) (S.A 0) mo oa ma _ _ _ _ _ := ⟨T, As, Am, hT, hoa, hY, hA0, hM, hAs, hAm, hdj⟩
  refine lv_iload hx hb dL_law_321 (lv_at hl 1 rfl) ?_
  refine lv_icmp_eq (tgt := 328) hx hb dL_law_323 (by decide) (fun _ => ?_) (fun z => absurd hr.symm z)
  refine lv_iload hx hb dL_law_328 (lv_at hl 1 rfl) ?_
  refine lv_if_ne (tgt := 345) hx hb dL_law_330 (by decide) (fun _ => ?_) (fun c0 => ?_)
  · refine lv_goto (tgt := 2013) hx hb dL_law_345 (by decide) ?_
    refine W.widen (k := cells + 100) (n := slots + 2000) (by omega) (by omega) ?_
    exact K _ _ _ _ _ _ hI1 hw hS (lv_sub hl [2, 3, 4, 5, 6] rfl)
  · refine lv_aload_n hx hb dL_law_333 rfl (lv_at hl 6 rfl) ?_
    refine lv_iconst (v := 0) hx hb dL_law_334 (by decide) ?_
    refine zt_lld (k := 0) hx hb hK.1 hT (va_up_self _ _ _) (by decide) (by decide) dL_law_335 ?_
    refine lv_iload hx hb dL_law_336 (lv_at hl 0 rfl) ?_
    refine lv_i2l hx hb dL_law_338 rfl ?_
    refine W.lcmp hx hb dL_law_339 ?_
    refine zm_topi (y := 0) (zcmp0 (hv1 c0)) ?_
    refine lv_if_eq (tgt := 345) hx hb dL_law_340 (by decide) (fun _ => ?_) (fun z => absurd rfl z)
    refine lv_goto (tgt := 2013) hx hb dL_law_345 (by decide) ?_
    refine W.widen (k := cells + 100) (n := slots + 2000) (by omega) (by omega) ?_
    exact K _ _ _ _ _ _ hI1 hw hS (lv_sub hl [2, 3, 4, 5, 6] rfl)
set_option maxHeartbeats 4000000 in
theorem cs_2 {p : Program} {l : Launch} {e : Env} {s : State} {m : MethodId} {below : List Frame} {meth : Method} {c : Code} {Q : State → Prop} {b L : Nat} {xs : Nat → Int32} {g : zG} {xo mo oa : Nat} {ma : Nat → Nat} (C0 : zFx p l s m c b L xs g) {t : Nat} (ht : 5 * t + 5 ≤ L) {S : zS} {X : zX} (hI : zIv t S X) {f : Nat → Int64} {H : Heap} {locs : List Loc} {cells slots : Nat} (hcells : cells + 100 ≤ 1200384) (hslots : slots + 2000 ≤ 5488298) (hw : zLw g (fun q : Nat => s.heap.size ≤ q) xo mo oa ma S X X f H) (hS : va_S (fun q : Nat => s.heap.size ≤ q) s.heap H locs) {ls : Array Slot} (hl : lv_has ls 7 [(4, .int (nI (5 * t))), (0, .ref b), (1, .ref xo), (2, .ref mo), (3, .ref oa)]) (K : zKt p l e s m below meth c b g xo mo oa ma t (cells + 100) (slots + 2000) Q) : W p l e room_1 s m #[Value.ref b] below meth c H locs cells slots Q (F0 m 348 ls []) := by
  obtain ⟨hL, hl0, hx, hb, hml, hown, hts, hX, hbl, hK⟩ := C0
  have hbA : ¬ (fun q : Nat => s.heap.size ≤ q) b := Nat.not_le.mpr hbl
  obtain ⟨T, As, Am, hT, hoa, hY, hA0, hM, hAs, hAm, hdj⟩ := hw
  subst hA0
  have ht99 : t ≤ 99 := by omega
  refine lv_aload_n hx hb dL_law_348 rfl (lv_at hl 2 rfl) ?_
  refine lv_aload_n hx hb dL_law_349 rfl (lv_at hl 1 rfl) ?_
  refine lv_iload hx hb dL_law_350 (lv_at hl 0 rfl) ?_
  refine lv_iconst (v := 1) hx hb dL_law_352 (by decide) ?_
  refine lv_iadd hx hb dL_law_353 ?_
  refine zm_topi (y := nI (5 * t + 1)) (nI_add (5 * t) 1) ?_
  refine va_sld hx hb hX hbl hbA hS (vp_in_nI (n := 5 * t + 1) (N := L) (by omega) (by omega)) dL_law_354 ?_
  refine zm_topi (y := xs (5 * t + 1)) (congrArg xs (nI_clamp (n := 5 * t + 1) (by omega))) ?_
  refine lv_aload_n hx hb dL_law_355 rfl (lv_at hl 1 rfl) ?_
  refine lv_iload hx hb dL_law_356 (lv_at hl 0 rfl) ?_
  refine lv_iconst (v := 2) hx hb dL_law_358 (by decide) ?_
  refine lv_iadd hx hb dL_law_359 ?_
  refine zm_topi (y := nI (5 * t + 2)) (nI_add (5 * t) 2) ?_
  refine va_sld hx hb hX hbl hbA hS (vp_in_nI (n := 5 * t + 2) (N := L) (by omega) (by omega)) dL_law_360 ?_
  refine zm_topi (y := xs (5 * t + 2)) (congrArg xs (nI_clamp (n := 5 * t + 2) (by omega))) ?_
  refine lv_aload_n hx hb dL_law_361 rfl (lv_at hl 4 rfl) ?_
  refine zl_sys (As := [.ref (S.A 0), .int (xs (5 * t + 1)), .int (xs (5 * t + 2)), .ref oa]) (rest := []) ⟨hx, hb, hml, hown, hts⟩ (ct_X0_fit l hl0 g As S X T hY oa f hoa hI.I hI.1.ko (hI.to ht99) (hI.lo ht99) hI.2.1.2.2.1 hI.1.ct hI.z12 (xs (5 * t + 1)) (xs (5 * t + 2))) zn_X0_fit (lw_SW q474 q475 q38 q476) (Nat.le_of_ble_eq_true rfl) (Nat.le_of_ble_eq_true rfl) hK hAs hS hT rfl hl.1 (Nat.le_of_ble_eq_true rfl) dL_law_362 ⟨by show _ + 9 ≤ 1200384; omega, by show _ + 700 ≤ 5488298; omega⟩ (fun r u H1 locs1 hp hT1 hz hkk hS1 => ?_)
  obtain ⟨hr, hn1, hp⟩ := hp
  obtain ⟨hI1, hA1, hY1, hv1⟩ := zStep.out (zp_fit hI ht99 (xs (5 * t + 1)) (xs (5 * t + 2))) hI hr hp
  have hw := zLw.sys (B := fun q : Nat => s.heap.size ≤ q) hT hM hAs hAm hdj hT1 hn1 hY1 hA1 hz hkk
  obtain ⟨T, As, Am, hT, hoa, hY, hA0, hM, hAs, hAm, hdj⟩ := hw
  have hS := hS1
  refine lv_istore (lv' := [(5, .int r), (4, .int (nI (5 * t))), (0, .ref b), (1, .ref (S.A 0)), (2, .ref mo), (3, .ref oa)]) hx hb dL_law_365 hl (by decide) rfl (fun ls hl => ?_)
  refine lv_aload_n hx hb dL_law_367 rfl (lv_at hl 4 rfl) ?_
  refine lv_aload_n hx hb dL_law_368 rfl (lv_at hl 2 rfl) ?_
  refine lv_iload hx hb dL_law_369 (lv_at hl 1 rfl) ?_
  refine lv_iconst (v := 1) hx hb dL_law_371 (by decide) ?_
  refine lv_iadd hx hb dL_law_372 ?_
  refine zm_topi (y := nI (5 * t + 1)) (nI_add (5 * t) 1) ?_
  refine va_sld hx hb hX hbl hbA hS (vp_in_nI (n := 5 * t + 1) (N := L) (by omega) (by omega)) dL_law_373 ?_
  refine zm_topi (y := xs (5 * t + 1)) (congrArg xs (nI_clamp (n := 5 * t + 1) (by omega))) ?_
  refine lv_aload_n hx hb dL_law_374 rfl (lv_at hl 2 rfl) ?_
  refine lv_iload hx hb dL_law_375 (lv_at hl 1 rfl) ?_
  refine lv_iconst (v := 2) hx hb dL_law_377 (by decide) ?_
  refine lv_iadd hx hb dL_law_378 ?_
  refine zm_topi (y := nI (5 * t + 2)) (nI_add (5 * t) 2) ?_
  refine va_sld hx hb hX hbl hbA hS (vp_in_nI (n := 5 * t + 2) (N := L) (by omega) (by omega)) dL_law_379 ?_
  refine zm_topi (y := xs (5 * t + 2)) (congrArg xs (nI_clamp (n := 5 * t + 2) (by omega))) ?_
  refine zl_mod (As := [.int (xs (5 * t + 1)), .int (xs (5 * t + 2))]) (rest := []) ⟨hx, hb, hml, hown, hts⟩ (ct_X3_fit l g Am mo ma X (xs (5 * t + 1)) (xs (5 * t + 2)) hI.I hI.z12 (hI.m23 ht99)) zn_X3_fit (lw_V q1138 q1139 q1140 q48 q1141) rfl (Nat.le_of_ble_eq_true rfl) (Nat.le_of_ble_eq_true rfl) hK hAm hS hM (zx_recv (hK.narrow hAm) hM) rfl hl.1 (Nat.le_of_ble_eq_true rfl) dL_law_380 ⟨by show _ + 0 ≤ 1200384; omega, by show _ + 0 ≤ 5488298; omega⟩ (fun r2 u H1 locs1 hp hM1 hz hkk hS1 => ?_)
  subst hp
  have hw := zLw.mod (B := fun q : Nat => s.heap.size ≤ q) hT hoa hY hA0 hM hAs hAm hdj hM1 hz hkk
  obtain ⟨T, As, Am, hT, hoa, hY, hA0, hM, hAs, hAm, hdj⟩ := hw
  have hS := hS1
  refine lv_istore (lv' := [(6, .int ((m_fit X (xs (5 * t + 1)) (xs (5 * t + 2))).1)), (5, .int r), (4, .int (nI (5 * t))), (0, .ref b), (1, .ref (S.A 0)), (2, .ref mo), (3, .ref oa)]) hx hb dL_law_383 hl (by decide) rfl (fun ls hl => ?_)
  refine lv_aload_n hx hb dL_law_385 rfl (lv_at hl 5 rfl) ?_
  refine zl_mod (As := []) (rest := []) ⟨hx, hb, hml, hown, hts⟩ (ct_X3_thrown l g Am mo ma (m_fit X (xs (5 * t + 1)) (xs (5 * t + 2))).2) zn_X3_thrown (lw_V q1122 q1123 q1124 q48 q1125) rfl (Nat.le_of_ble_eq_true rfl) (Nat.le_of_ble_eq_true rfl) hK hAm hS hM (zx_recv (hK.narrow hAm) hM) rfl hl.1 (Nat.le_of_ble_eq_true rfl) dL_law_386 ⟨by show _ + 0 ≤ 1200384; omega, by show _ + 0 ≤ 5488298; omega⟩ (fun r2 u H1 locs1 hp hM1 hz hkk hS1 => ?_)
  subst hp
  have hw := zLw.mod (B := fun q : Nat => s.heap.size ≤ q) hT hoa hY hA0 hM hAs hAm hdj hM1 hz hkk
  obtain ⟨T, As, Am, hT, hoa, hY, hA0, hM, hAs, hAm, hdj⟩ := hw
  have hS := hS1
  have hw : zLw g (fun q : Nat => s.heap.size ≤ q) (S.A 0) mo oa ma _ _ _ _ _ := ⟨T, As, Am, hT, hoa, hY, hA0, hM, hAs, hAm, hdj⟩
  refine lv_iload hx hb dL_law_389 (lv_at hl 1 rfl) ?_
  refine lv_icmp_eq (tgt := 396) hx hb dL_law_391 (by decide) (fun _ => ?_) (fun z => absurd hr.symm z)
  refine lv_iload hx hb dL_law_396 (lv_at hl 1 rfl) ?_
  refine lv_if_ne (tgt := 413) hx hb dL_law_398 (by decide) (fun _ => ?_) (fun c0 => ?_)
  · refine lv_goto (tgt := 2013) hx hb dL_law_413 (by decide) ?_
    refine W.widen (k := cells + 100) (n := slots + 2000) (by omega) (by omega) ?_
    exact K _ _ _ _ _ _ hI1 hw hS (lv_sub hl [2, 3, 4, 5, 6] rfl)
  · refine lv_aload_n hx hb dL_law_401 rfl (lv_at hl 6 rfl) ?_
    refine lv_iconst (v := 0) hx hb dL_law_402 (by decide) ?_
    refine zt_lld (k := 0) hx hb hK.1 hT (va_up_self _ _ _) (by decide) (by decide) dL_law_403 ?_
    refine lv_iload hx hb dL_law_404 (lv_at hl 0 rfl) ?_
    refine lv_i2l hx hb dL_law_406 rfl ?_
    refine W.lcmp hx hb dL_law_407 ?_
    refine zm_topi (y := 0) (zcmp0 (hv1 c0)) ?_
    refine lv_if_eq (tgt := 413) hx hb dL_law_408 (by decide) (fun _ => ?_) (fun z => absurd rfl z)
    refine lv_goto (tgt := 2013) hx hb dL_law_413 (by decide) ?_
    refine W.widen (k := cells + 100) (n := slots + 2000) (by omega) (by omega) ?_
    exact K _ _ _ _ _ _ hI1 hw hS (lv_sub hl [2, 3, 4, 5, 6] rfl)
set_option maxHeartbeats 4000000 in
theorem cs_3 {p : Program} {l : Launch} {e : Env} {s : State} {m : MethodId} {below : List Frame} {meth : Method} {c : Code} {Q : State → Prop} {b L : Nat} {xs : Nat → Int32} {g : zG} {xo mo oa : Nat} {ma : Nat → Nat} (C0 : zFx p l s m c b L xs g) {t : Nat} (ht : 5 * t + 5 ≤ L) {S : zS} {X : zX} (hI : zIv t S X) {f : Nat → Int64} {H : Heap} {locs : List Loc} {cells slots : Nat} (hcells : cells + 100 ≤ 1200384) (hslots : slots + 2000 ≤ 5488298) (hw : zLw g (fun q : Nat => s.heap.size ≤ q) xo mo oa ma S X X f H) (hS : va_S (fun q : Nat => s.heap.size ≤ q) s.heap H locs) {ls : Array Slot} (hl : lv_has ls 7 [(4, .int (nI (5 * t))), (0, .ref b), (1, .ref xo), (2, .ref mo), (3, .ref oa)]) (K : zKt p l e s m below meth c b g xo mo oa ma t (cells + 100) (slots + 2000) Q) : W p l e room_1 s m #[Value.ref b] below meth c H locs cells slots Q (F0 m 416 ls []) := by
  obtain ⟨hL, hl0, hx, hb, hml, hown, hts, hX, hbl, hK⟩ := C0
  have hbA : ¬ (fun q : Nat => s.heap.size ≤ q) b := Nat.not_le.mpr hbl
  obtain ⟨T, As, Am, hT, hoa, hY, hA0, hM, hAs, hAm, hdj⟩ := hw
  subst hA0
  have ht99 : t ≤ 99 := by omega
  refine lv_aload_n hx hb dL_law_416 rfl (lv_at hl 2 rfl) ?_
  refine lv_aload_n hx hb dL_law_417 rfl (lv_at hl 1 rfl) ?_
  refine lv_iload hx hb dL_law_418 (lv_at hl 0 rfl) ?_
  refine lv_iconst (v := 1) hx hb dL_law_420 (by decide) ?_
  refine lv_iadd hx hb dL_law_421 ?_
  refine zm_topi (y := nI (5 * t + 1)) (nI_add (5 * t) 1) ?_
  refine va_sld hx hb hX hbl hbA hS (vp_in_nI (n := 5 * t + 1) (N := L) (by omega) (by omega)) dL_law_422 ?_
  refine zm_topi (y := xs (5 * t + 1)) (congrArg xs (nI_clamp (n := 5 * t + 1) (by omega))) ?_
  refine lv_aload_n hx hb dL_law_423 rfl (lv_at hl 4 rfl) ?_
  refine zl_sys (As := [.ref (S.A 0), .int (xs (5 * t + 1)), .ref oa]) (rest := []) ⟨hx, hb, hml, hown, hts⟩ (ct_X0_take l hl0 g As S X T hY oa f hoa hI.I hI.1.ko (hI.to ht99) (hI.lo ht99) hI.z12 hI.1.km (xs (5 * t + 1))) zn_X0_take (lw_SW q590 q591 q38 q592) (Nat.le_of_ble_eq_true rfl) (Nat.le_of_ble_eq_true rfl) hK hAs hS hT rfl hl.1 (Nat.le_of_ble_eq_true rfl) dL_law_424 ⟨by show _ + 9 ≤ 1200384; omega, by show _ + 700 ≤ 5488298; omega⟩ (fun r u H1 locs1 hp hT1 hz hkk hS1 => ?_)
  obtain ⟨hr, hn1, hp⟩ := hp
  obtain ⟨hI1, hA1, hY1, hv1⟩ := zStep.out (zp_take hI ht99 (xs (5 * t + 1))) hI hr hp
  have hw := zLw.sys (B := fun q : Nat => s.heap.size ≤ q) hT hM hAs hAm hdj hT1 hn1 hY1 hA1 hz hkk
  obtain ⟨T, As, Am, hT, hoa, hY, hA0, hM, hAs, hAm, hdj⟩ := hw
  have hS := hS1
  refine lv_istore (lv' := [(5, .int r), (4, .int (nI (5 * t))), (0, .ref b), (1, .ref (S.A 0)), (2, .ref mo), (3, .ref oa)]) hx hb dL_law_427 hl (by decide) rfl (fun ls hl => ?_)
  refine lv_aload_n hx hb dL_law_429 rfl (lv_at hl 4 rfl) ?_
  refine lv_aload_n hx hb dL_law_430 rfl (lv_at hl 2 rfl) ?_
  refine lv_iload hx hb dL_law_431 (lv_at hl 1 rfl) ?_
  refine lv_iconst (v := 1) hx hb dL_law_433 (by decide) ?_
  refine lv_iadd hx hb dL_law_434 ?_
  refine zm_topi (y := nI (5 * t + 1)) (nI_add (5 * t) 1) ?_
  refine va_sld hx hb hX hbl hbA hS (vp_in_nI (n := 5 * t + 1) (N := L) (by omega) (by omega)) dL_law_435 ?_
  refine zm_topi (y := xs (5 * t + 1)) (congrArg xs (nI_clamp (n := 5 * t + 1) (by omega))) ?_
  refine zl_mod (As := [.int (xs (5 * t + 1))]) (rest := []) ⟨hx, hb, hml, hown, hts⟩ (ct_X3_take l g Am mo ma X (xs (5 * t + 1)) hI.I hI.z12 (hI.m23 ht99)) zn_X3_take (lw_V q1169 q1170 q1171 q48 q1172) rfl (Nat.le_of_ble_eq_true rfl) (Nat.le_of_ble_eq_true rfl) hK hAm hS hM (zx_recv (hK.narrow hAm) hM) rfl hl.1 (Nat.le_of_ble_eq_true rfl) dL_law_436 ⟨by show _ + 0 ≤ 1200384; omega, by show _ + 0 ≤ 5488298; omega⟩ (fun r2 u H1 locs1 hp hM1 hz hkk hS1 => ?_)
  subst hp
  have hw := zLw.mod (B := fun q : Nat => s.heap.size ≤ q) hT hoa hY hA0 hM hAs hAm hdj hM1 hz hkk
  obtain ⟨T, As, Am, hT, hoa, hY, hA0, hM, hAs, hAm, hdj⟩ := hw
  have hS := hS1
  refine lv_istore (lv' := [(6, .int ((m_take X (xs (5 * t + 1))).1)), (5, .int r), (4, .int (nI (5 * t))), (0, .ref b), (1, .ref (S.A 0)), (2, .ref mo), (3, .ref oa)]) hx hb dL_law_439 hl (by decide) rfl (fun ls hl => ?_)
  refine lv_aload_n hx hb dL_law_441 rfl (lv_at hl 5 rfl) ?_
  refine zl_mod (As := []) (rest := []) ⟨hx, hb, hml, hown, hts⟩ (ct_X3_thrown l g Am mo ma (m_take X (xs (5 * t + 1))).2) zn_X3_thrown (lw_V q1122 q1123 q1124 q48 q1125) rfl (Nat.le_of_ble_eq_true rfl) (Nat.le_of_ble_eq_true rfl) hK hAm hS hM (zx_recv (hK.narrow hAm) hM) rfl hl.1 (Nat.le_of_ble_eq_true rfl) dL_law_442 ⟨by show _ + 0 ≤ 1200384; omega, by show _ + 0 ≤ 5488298; omega⟩ (fun r2 u H1 locs1 hp hM1 hz hkk hS1 => ?_)
  subst hp
  have hw := zLw.mod (B := fun q : Nat => s.heap.size ≤ q) hT hoa hY hA0 hM hAs hAm hdj hM1 hz hkk
  obtain ⟨T, As, Am, hT, hoa, hY, hA0, hM, hAs, hAm, hdj⟩ := hw
  have hS := hS1
  have hw : zLw g (fun q : Nat => s.heap.size ≤ q) (S.A 0) mo oa ma _ _ _ _ _ := ⟨T, As, Am, hT, hoa, hY, hA0, hM, hAs, hAm, hdj⟩
  refine lv_iload hx hb dL_law_445 (lv_at hl 1 rfl) ?_
  refine lv_icmp_eq (tgt := 452) hx hb dL_law_447 (by decide) (fun _ => ?_) (fun z => absurd hr.symm z)
  refine lv_iload hx hb dL_law_452 (lv_at hl 1 rfl) ?_
  refine lv_if_ne (tgt := 469) hx hb dL_law_454 (by decide) (fun _ => ?_) (fun c0 => ?_)
  · refine lv_goto (tgt := 2013) hx hb dL_law_469 (by decide) ?_
    refine W.widen (k := cells + 100) (n := slots + 2000) (by omega) (by omega) ?_
    exact K _ _ _ _ _ _ hI1 hw hS (lv_sub hl [2, 3, 4, 5, 6] rfl)
  · refine lv_aload_n hx hb dL_law_457 rfl (lv_at hl 6 rfl) ?_
    refine lv_iconst (v := 0) hx hb dL_law_458 (by decide) ?_
    refine zt_lld (k := 0) hx hb hK.1 hT (va_up_self _ _ _) (by decide) (by decide) dL_law_459 ?_
    refine lv_iload hx hb dL_law_460 (lv_at hl 0 rfl) ?_
    refine lv_i2l hx hb dL_law_462 rfl ?_
    refine W.lcmp hx hb dL_law_463 ?_
    refine zm_topi (y := 0) (zcmp0 (hv1 c0)) ?_
    refine lv_if_eq (tgt := 469) hx hb dL_law_464 (by decide) (fun _ => ?_) (fun z => absurd rfl z)
    refine lv_goto (tgt := 2013) hx hb dL_law_469 (by decide) ?_
    refine W.widen (k := cells + 100) (n := slots + 2000) (by omega) (by omega) ?_
    exact K _ _ _ _ _ _ hI1 hw hS (lv_sub hl [2, 3, 4, 5, 6] rfl)
set_option maxHeartbeats 4000000 in
theorem cs_4 {p : Program} {l : Launch} {e : Env} {s : State} {m : MethodId} {below : List Frame} {meth : Method} {c : Code} {Q : State → Prop} {b L : Nat} {xs : Nat → Int32} {g : zG} {xo mo oa : Nat} {ma : Nat → Nat} (C0 : zFx p l s m c b L xs g) {t : Nat} (ht : 5 * t + 5 ≤ L) {S : zS} {X : zX} (hI : zIv t S X) {f : Nat → Int64} {H : Heap} {locs : List Loc} {cells slots : Nat} (hcells : cells + 100 ≤ 1200384) (hslots : slots + 2000 ≤ 5488298) (hw : zLw g (fun q : Nat => s.heap.size ≤ q) xo mo oa ma S X X f H) (hS : va_S (fun q : Nat => s.heap.size ≤ q) s.heap H locs) {ls : Array Slot} (hl : lv_has ls 7 [(4, .int (nI (5 * t))), (0, .ref b), (1, .ref xo), (2, .ref mo), (3, .ref oa)]) (K : zKt p l e s m below meth c b g xo mo oa ma t (cells + 100) (slots + 2000) Q) : W p l e room_1 s m #[Value.ref b] below meth c H locs cells slots Q (F0 m 472 ls []) := by
  obtain ⟨hL, hl0, hx, hb, hml, hown, hts, hX, hbl, hK⟩ := C0
  have hbA : ¬ (fun q : Nat => s.heap.size ≤ q) b := Nat.not_le.mpr hbl
  obtain ⟨T, As, Am, hT, hoa, hY, hA0, hM, hAs, hAm, hdj⟩ := hw
  subst hA0
  have ht99 : t ≤ 99 := by omega
  refine lv_aload_n hx hb dL_law_472 rfl (lv_at hl 2 rfl) ?_
  refine lv_aload_n hx hb dL_law_473 rfl (lv_at hl 1 rfl) ?_
  refine lv_iload hx hb dL_law_474 (lv_at hl 0 rfl) ?_
  refine lv_iconst (v := 1) hx hb dL_law_476 (by decide) ?_
  refine lv_iadd hx hb dL_law_477 ?_
  refine zm_topi (y := nI (5 * t + 1)) (nI_add (5 * t) 1) ?_
  refine va_sld hx hb hX hbl hbA hS (vp_in_nI (n := 5 * t + 1) (N := L) (by omega) (by omega)) dL_law_478 ?_
  refine zm_topi (y := xs (5 * t + 1)) (congrArg xs (nI_clamp (n := 5 * t + 1) (by omega))) ?_
  refine zl_sys (As := [.ref (S.A 0), .int (xs (5 * t + 1))]) (rest := []) ⟨hx, hb, hml, hown, hts⟩ (ct_X0_scrap l hl0 g (fun q => As q ∧ q ≠ oa) S X T hY hI.I hI.1.ko (hI.to ht99) hI.qu.wo hI.1.ct hI.z12 (hI.qu.ws hI.n60) hI.rel (xs (5 * t + 1))) zn_X0_scrap (lw_SW q624 q625 q38 q626) (Nat.le_of_ble_eq_true rfl) (Nat.le_of_ble_eq_true rfl) hK (fun q h => hAs q h.1) hS (hT.split hoa) rfl hl.1 (Nat.le_of_ble_eq_true rfl) dL_law_479 ⟨by show _ + 3 ≤ 1200384; omega, by show _ + 172 ≤ 5488298; omega⟩ (fun r u H1 locs1 hp hT1 hz hkk hS1 => ?_)
  obtain ⟨hr, hp⟩ := hp
  obtain ⟨hI1, hA1, hY1⟩ := zStep.out2 (zp_scrap hI ht99 (xs (5 * t + 1))) hI hr hp
  obtain ⟨hT2, hn1⟩ := zTH.join hT hT1 (hkk oa (hT.lt (va_up_self _ _ _)) (fun z => z.2 rfl))
  have hw := zLw.sys (B := fun q : Nat => s.heap.size ≤ q) hT hM hAs hAm hdj hT2 hn1 hY1 hA1 hz (fun q h1 h2 => hkk q h1 (fun z => h2 z.1))
  obtain ⟨T, As, Am, hT, hoa, hY, hA0, hM, hAs, hAm, hdj⟩ := hw
  have hS := hS1
  refine lv_istore (lv' := [(5, .int r), (4, .int (nI (5 * t))), (0, .ref b), (1, .ref (S.A 0)), (2, .ref mo), (3, .ref oa)]) hx hb dL_law_482 hl (by decide) rfl (fun ls hl => ?_)
  refine lv_aload_n hx hb dL_law_484 rfl (lv_at hl 4 rfl) ?_
  refine lv_aload_n hx hb dL_law_485 rfl (lv_at hl 2 rfl) ?_
  refine lv_iload hx hb dL_law_486 (lv_at hl 1 rfl) ?_
  refine lv_iconst (v := 1) hx hb dL_law_488 (by decide) ?_
  refine lv_iadd hx hb dL_law_489 ?_
  refine zm_topi (y := nI (5 * t + 1)) (nI_add (5 * t) 1) ?_
  refine va_sld hx hb hX hbl hbA hS (vp_in_nI (n := 5 * t + 1) (N := L) (by omega) (by omega)) dL_law_490 ?_
  refine zm_topi (y := xs (5 * t + 1)) (congrArg xs (nI_clamp (n := 5 * t + 1) (by omega))) ?_
  refine zl_modv (As := [.int (xs (5 * t + 1))]) (rest := []) ⟨hx, hb, hml, hown, hts⟩ (ct_X3_scrap l g Am mo ma X (xs (5 * t + 1)) hI.I hI.z12 (hI.m23 ht99) hI.w26) zn_X3_scrap (lw_V q1173 q1174 q1175 q48 q1176) rfl (Nat.le_of_ble_eq_true rfl) (Nat.le_of_ble_eq_true rfl) hK hAm hS hM (zx_recv (hK.narrow hAm) hM) rfl hl.1 (Nat.le_of_ble_eq_true rfl) dL_law_491 ⟨by show _ + 0 ≤ 1200384; omega, by show _ + 0 ≤ 5488298; omega⟩ (fun u H1 locs1 hp hM1 hz hkk hS1 => ?_)
  have hw := zLw.mod (B := fun q : Nat => s.heap.size ≤ q) hT hoa hY hA0 hM hAs hAm hdj hM1 hz hkk
  obtain ⟨T, As, Am, hT, hoa, hY, hA0, hM, hAs, hAm, hdj⟩ := hw
  have hS := hS1
  refine lv_aload_n hx hb dL_law_494 rfl (lv_at hl 4 rfl) ?_
  refine zl_mod (As := []) (rest := []) ⟨hx, hb, hml, hown, hts⟩ (ct_X3_thrown l g Am mo ma (m_scrap X (xs (5 * t + 1)))) zn_X3_thrown (lw_V q1122 q1123 q1124 q48 q1125) rfl (Nat.le_of_ble_eq_true rfl) (Nat.le_of_ble_eq_true rfl) hK hAm hS hM (zx_recv (hK.narrow hAm) hM) rfl hl.1 (Nat.le_of_ble_eq_true rfl) dL_law_495 ⟨by show _ + 0 ≤ 1200384; omega, by show _ + 0 ≤ 5488298; omega⟩ (fun r2 u H1 locs1 hp hM1 hz hkk hS1 => ?_)
  subst hp
  have hw := zLw.mod (B := fun q : Nat => s.heap.size ≤ q) hT hoa hY hA0 hM hAs hAm hdj hM1 hz hkk
  obtain ⟨T, As, Am, hT, hoa, hY, hA0, hM, hAs, hAm, hdj⟩ := hw
  have hS := hS1
  have hw : zLw g (fun q : Nat => s.heap.size ≤ q) (S.A 0) mo oa ma _ _ _ _ _ := ⟨T, As, Am, hT, hoa, hY, hA0, hM, hAs, hAm, hdj⟩
  refine lv_iload hx hb dL_law_498 (lv_at hl 0 rfl) ?_
  refine lv_icmp_eq (tgt := 505) hx hb dL_law_500 (by decide) (fun _ => ?_) (fun z => absurd hr.symm z)
  refine lv_goto (tgt := 2013) hx hb dL_law_505 (by decide) ?_
  refine W.widen (k := cells + 100) (n := slots + 2000) (by omega) (by omega) ?_
  exact K _ _ _ _ _ _ hI1 hw hS (lv_sub hl [1, 2, 3, 4, 5] rfl)
set_option maxHeartbeats 4000000 in
theorem cs_5 {p : Program} {l : Launch} {e : Env} {s : State} {m : MethodId} {below : List Frame} {meth : Method} {c : Code} {Q : State → Prop} {b L : Nat} {xs : Nat → Int32} {g : zG} {xo mo oa : Nat} {ma : Nat → Nat} (C0 : zFx p l s m c b L xs g) {t : Nat} (ht : 5 * t + 5 ≤ L) {S : zS} {X : zX} (hI : zIv t S X) {f : Nat → Int64} {H : Heap} {locs : List Loc} {cells slots : Nat} (hcells : cells + 100 ≤ 1200384) (hslots : slots + 2000 ≤ 5488298) (hw : zLw g (fun q : Nat => s.heap.size ≤ q) xo mo oa ma S X X f H) (hS : va_S (fun q : Nat => s.heap.size ≤ q) s.heap H locs) {ls : Array Slot} (hl : lv_has ls 7 [(4, .int (nI (5 * t))), (0, .ref b), (1, .ref xo), (2, .ref mo), (3, .ref oa)]) (K : zKt p l e s m below meth c b g xo mo oa ma t (cells + 100) (slots + 2000) Q) : W p l e room_1 s m #[Value.ref b] below meth c H locs cells slots Q (F0 m 508 ls []) := by
  obtain ⟨hL, hl0, hx, hb, hml, hown, hts, hX, hbl, hK⟩ := C0
  have hbA : ¬ (fun q : Nat => s.heap.size ≤ q) b := Nat.not_le.mpr hbl
  obtain ⟨T, As, Am, hT, hoa, hY, hA0, hM, hAs, hAm, hdj⟩ := hw
  subst hA0
  have ht99 : t ≤ 99 := by omega
  refine lv_aload_n hx hb dL_law_508 rfl (lv_at hl 2 rfl) ?_
  refine lv_aload_n hx hb dL_law_509 rfl (lv_at hl 1 rfl) ?_
  refine lv_iload hx hb dL_law_510 (lv_at hl 0 rfl) ?_
  refine lv_iconst (v := 1) hx hb dL_law_512 (by decide) ?_
  refine lv_iadd hx hb dL_law_513 ?_
  refine zm_topi (y := nI (5 * t + 1)) (nI_add (5 * t) 1) ?_
  refine va_sld hx hb hX hbl hbA hS (vp_in_nI (n := 5 * t + 1) (N := L) (by omega) (by omega)) dL_law_514 ?_
  refine zm_topi (y := xs (5 * t + 1)) (congrArg xs (nI_clamp (n := 5 * t + 1) (by omega))) ?_
  refine lv_aload_n hx hb dL_law_515 rfl (lv_at hl 1 rfl) ?_
  refine lv_iload hx hb dL_law_516 (lv_at hl 0 rfl) ?_
  refine lv_iconst (v := 2) hx hb dL_law_518 (by decide) ?_
  refine lv_iadd hx hb dL_law_519 ?_
  refine zm_topi (y := nI (5 * t + 2)) (nI_add (5 * t) 2) ?_
  refine va_sld hx hb hX hbl hbA hS (vp_in_nI (n := 5 * t + 2) (N := L) (by omega) (by omega)) dL_law_520 ?_
  refine zm_topi (y := xs (5 * t + 2)) (congrArg xs (nI_clamp (n := 5 * t + 2) (by omega))) ?_
  refine lv_aload_n hx hb dL_law_521 rfl (lv_at hl 1 rfl) ?_
  refine lv_iload hx hb dL_law_522 (lv_at hl 0 rfl) ?_
  refine lv_iconst (v := 3) hx hb dL_law_524 (by decide) ?_
  refine lv_iadd hx hb dL_law_525 ?_
  refine zm_topi (y := nI (5 * t + 3)) (nI_add (5 * t) 3) ?_
  refine va_sld hx hb hX hbl hbA hS (vp_in_nI (n := 5 * t + 3) (N := L) (by omega) (by omega)) dL_law_526 ?_
  refine zm_topi (y := xs (5 * t + 3)) (congrArg xs (nI_clamp (n := 5 * t + 3) (by omega))) ?_
  refine lv_aload_n hx hb dL_law_527 rfl (lv_at hl 4 rfl) ?_
  refine zl_sys (As := [.ref (S.A 0), .int (xs (5 * t + 1)), .int (xs (5 * t + 2)), .int (xs (5 * t + 3)), .ref oa]) (rest := []) ⟨hx, hb, hml, hown, hts⟩ (ct_X0_run l hl0 g As S X T hY oa f hoa (xs (5 * t + 1)) (xs (5 * t + 2)) (xs (5 * t + 3)) hI.I hI.1.ko hI.1.kk (hI.lo ht99) hI.z12 (fun i hi => zDn_nd hI.1 5 i hi) (hI.fl ht99 _) (fun i hi h2 _ _ _ _ => zrun hI.1 hI.z9 hi h2 _ _)) zn_X0_run (lw_SW q635 q636 q38 q637) (Nat.le_of_ble_eq_true rfl) (Nat.le_of_ble_eq_true rfl) hK hAs hS hT rfl hl.1 (Nat.le_of_ble_eq_true rfl) dL_law_528 ⟨by show _ + 8 ≤ 1200384; omega, by show _ + 190 ≤ 5488298; omega⟩ (fun r u H1 locs1 hp hT1 hz hkk hS1 => ?_)
  obtain ⟨hr, hn1, hp⟩ := hp
  obtain ⟨hI1, hA1, hY1, hv1⟩ := zStep.out (zp_run hI ht99 (xs (5 * t + 1)) (xs (5 * t + 2)) (xs (5 * t + 3))) hI hr hp
  have hw := zLw.sys (B := fun q : Nat => s.heap.size ≤ q) hT hM hAs hAm hdj hT1 hn1 hY1 hA1 hz hkk
  obtain ⟨T, As, Am, hT, hoa, hY, hA0, hM, hAs, hAm, hdj⟩ := hw
  have hS := hS1
  refine lv_istore (lv' := [(5, .int r), (4, .int (nI (5 * t))), (0, .ref b), (1, .ref (S.A 0)), (2, .ref mo), (3, .ref oa)]) hx hb dL_law_531 hl (by decide) rfl (fun ls hl => ?_)
  refine lv_aload_n hx hb dL_law_533 rfl (lv_at hl 4 rfl) ?_
  refine lv_aload_n hx hb dL_law_534 rfl (lv_at hl 2 rfl) ?_
  refine lv_iload hx hb dL_law_535 (lv_at hl 1 rfl) ?_
  refine lv_iconst (v := 1) hx hb dL_law_537 (by decide) ?_
  refine lv_iadd hx hb dL_law_538 ?_
  refine zm_topi (y := nI (5 * t + 1)) (nI_add (5 * t) 1) ?_
  refine va_sld hx hb hX hbl hbA hS (vp_in_nI (n := 5 * t + 1) (N := L) (by omega) (by omega)) dL_law_539 ?_
  refine zm_topi (y := xs (5 * t + 1)) (congrArg xs (nI_clamp (n := 5 * t + 1) (by omega))) ?_
  refine lv_aload_n hx hb dL_law_540 rfl (lv_at hl 2 rfl) ?_
  refine lv_iload hx hb dL_law_541 (lv_at hl 1 rfl) ?_
  refine lv_iconst (v := 2) hx hb dL_law_543 (by decide) ?_
  refine lv_iadd hx hb dL_law_544 ?_
  refine zm_topi (y := nI (5 * t + 2)) (nI_add (5 * t) 2) ?_
  refine va_sld hx hb hX hbl hbA hS (vp_in_nI (n := 5 * t + 2) (N := L) (by omega) (by omega)) dL_law_545 ?_
  refine zm_topi (y := xs (5 * t + 2)) (congrArg xs (nI_clamp (n := 5 * t + 2) (by omega))) ?_
  refine lv_aload_n hx hb dL_law_546 rfl (lv_at hl 2 rfl) ?_
  refine lv_iload hx hb dL_law_547 (lv_at hl 1 rfl) ?_
  refine lv_iconst (v := 3) hx hb dL_law_549 (by decide) ?_
  refine lv_iadd hx hb dL_law_550 ?_
  refine zm_topi (y := nI (5 * t + 3)) (nI_add (5 * t) 3) ?_
  refine va_sld hx hb hX hbl hbA hS (vp_in_nI (n := 5 * t + 3) (N := L) (by omega) (by omega)) dL_law_551 ?_
  refine zm_topi (y := xs (5 * t + 3)) (congrArg xs (nI_clamp (n := 5 * t + 3) (by omega))) ?_
  refine zl_mod (As := [.int (xs (5 * t + 1)), .int (xs (5 * t + 2)), .int (xs (5 * t + 3))]) (rest := []) ⟨hx, hb, hml, hown, hts⟩ (ct_X3_run l g Am mo ma X (xs (5 * t + 1)) (xs (5 * t + 2)) (xs (5 * t + 3)) hI.I hI.z11 hI.z12) zn_X3_run (lw_V q1181 q1182 q1183 q48 q1184) rfl (Nat.le_of_ble_eq_true rfl) (Nat.le_of_ble_eq_true rfl) hK hAm hS hM (zx_recv (hK.narrow hAm) hM) rfl hl.1 (Nat.le_of_ble_eq_true rfl) dL_law_552 ⟨by show _ + 0 ≤ 1200384; omega, by show _ + 0 ≤ 5488298; omega⟩ (fun r2 u H1 locs1 hp hM1 hz hkk hS1 => ?_)
  subst hp
  have hw := zLw.mod (B := fun q : Nat => s.heap.size ≤ q) hT hoa hY hA0 hM hAs hAm hdj hM1 hz hkk
  obtain ⟨T, As, Am, hT, hoa, hY, hA0, hM, hAs, hAm, hdj⟩ := hw
  have hS := hS1
  refine lv_istore (lv' := [(6, .int ((m_run X (xs (5 * t + 1)) (xs (5 * t + 2)) (xs (5 * t + 3))).1)), (5, .int r), (4, .int (nI (5 * t))), (0, .ref b), (1, .ref (S.A 0)), (2, .ref mo), (3, .ref oa)]) hx hb dL_law_555 hl (by decide) rfl (fun ls hl => ?_)
  refine lv_aload_n hx hb dL_law_557 rfl (lv_at hl 5 rfl) ?_
  refine zl_mod (As := []) (rest := []) ⟨hx, hb, hml, hown, hts⟩ (ct_X3_thrown l g Am mo ma (m_run X (xs (5 * t + 1)) (xs (5 * t + 2)) (xs (5 * t + 3))).2) zn_X3_thrown (lw_V q1122 q1123 q1124 q48 q1125) rfl (Nat.le_of_ble_eq_true rfl) (Nat.le_of_ble_eq_true rfl) hK hAm hS hM (zx_recv (hK.narrow hAm) hM) rfl hl.1 (Nat.le_of_ble_eq_true rfl) dL_law_558 ⟨by show _ + 0 ≤ 1200384; omega, by show _ + 0 ≤ 5488298; omega⟩ (fun r2 u H1 locs1 hp hM1 hz hkk hS1 => ?_)
  subst hp
  have hw := zLw.mod (B := fun q : Nat => s.heap.size ≤ q) hT hoa hY hA0 hM hAs hAm hdj hM1 hz hkk
  obtain ⟨T, As, Am, hT, hoa, hY, hA0, hM, hAs, hAm, hdj⟩ := hw
  have hS := hS1
  have hw : zLw g (fun q : Nat => s.heap.size ≤ q) (S.A 0) mo oa ma _ _ _ _ _ := ⟨T, As, Am, hT, hoa, hY, hA0, hM, hAs, hAm, hdj⟩
  refine lv_iload hx hb dL_law_561 (lv_at hl 1 rfl) ?_
  refine lv_icmp_eq (tgt := 568) hx hb dL_law_563 (by decide) (fun _ => ?_) (fun z => absurd hr.symm z)
  refine lv_iload hx hb dL_law_568 (lv_at hl 1 rfl) ?_
  refine lv_if_ne (tgt := 585) hx hb dL_law_570 (by decide) (fun _ => ?_) (fun c0 => ?_)
  · refine lv_goto (tgt := 2013) hx hb dL_law_585 (by decide) ?_
    refine W.widen (k := cells + 100) (n := slots + 2000) (by omega) (by omega) ?_
    exact K _ _ _ _ _ _ hI1 hw hS (lv_sub hl [2, 3, 4, 5, 6] rfl)
  · refine lv_aload_n hx hb dL_law_573 rfl (lv_at hl 6 rfl) ?_
    refine lv_iconst (v := 0) hx hb dL_law_574 (by decide) ?_
    refine zt_lld (k := 0) hx hb hK.1 hT (va_up_self _ _ _) (by decide) (by decide) dL_law_575 ?_
    refine lv_iload hx hb dL_law_576 (lv_at hl 0 rfl) ?_
    refine lv_i2l hx hb dL_law_578 rfl ?_
    refine W.lcmp hx hb dL_law_579 ?_
    refine zm_topi (y := 0) (zcmp0 (hv1 c0)) ?_
    refine lv_if_eq (tgt := 585) hx hb dL_law_580 (by decide) (fun _ => ?_) (fun z => absurd rfl z)
    refine lv_goto (tgt := 2013) hx hb dL_law_585 (by decide) ?_
    refine W.widen (k := cells + 100) (n := slots + 2000) (by omega) (by omega) ?_
    exact K _ _ _ _ _ _ hI1 hw hS (lv_sub hl [2, 3, 4, 5, 6] rfl)
set_option maxHeartbeats 4000000 in
theorem cs_6 {p : Program} {l : Launch} {e : Env} {s : State} {m : MethodId} {below : List Frame} {meth : Method} {c : Code} {Q : State → Prop} {b L : Nat} {xs : Nat → Int32} {g : zG} {xo mo oa : Nat} {ma : Nat → Nat} (C0 : zFx p l s m c b L xs g) {t : Nat} (ht : 5 * t + 5 ≤ L) {S : zS} {X : zX} (hI : zIv t S X) {f : Nat → Int64} {H : Heap} {locs : List Loc} {cells slots : Nat} (hcells : cells + 100 ≤ 1200384) (hslots : slots + 2000 ≤ 5488298) (hw : zLw g (fun q : Nat => s.heap.size ≤ q) xo mo oa ma S X X f H) (hS : va_S (fun q : Nat => s.heap.size ≤ q) s.heap H locs) {ls : Array Slot} (hl : lv_has ls 7 [(4, .int (nI (5 * t))), (0, .ref b), (1, .ref xo), (2, .ref mo), (3, .ref oa)]) (K : zKt p l e s m below meth c b g xo mo oa ma t (cells + 100) (slots + 2000) Q) : W p l e room_1 s m #[Value.ref b] below meth c H locs cells slots Q (F0 m 588 ls []) := by
  obtain ⟨hL, hl0, hx, hb, hml, hown, hts, hX, hbl, hK⟩ := C0
  have hbA : ¬ (fun q : Nat => s.heap.size ≤ q) b := Nat.not_le.mpr hbl
  obtain ⟨T, As, Am, hT, hoa, hY, hA0, hM, hAs, hAm, hdj⟩ := hw
  subst hA0
  have ht99 : t ≤ 99 := by omega
  refine lv_aload_n hx hb dL_law_588 rfl (lv_at hl 2 rfl) ?_
  refine lv_aload_n hx hb dL_law_589 rfl (lv_at hl 1 rfl) ?_
  refine lv_iload hx hb dL_law_590 (lv_at hl 0 rfl) ?_
  refine lv_iconst (v := 1) hx hb dL_law_592 (by decide) ?_
  refine lv_iadd hx hb dL_law_593 ?_
  refine zm_topi (y := nI (5 * t + 1)) (nI_add (5 * t) 1) ?_
  refine va_sld hx hb hX hbl hbA hS (vp_in_nI (n := 5 * t + 1) (N := L) (by omega) (by omega)) dL_law_594 ?_
  refine zm_topi (y := xs (5 * t + 1)) (congrArg xs (nI_clamp (n := 5 * t + 1) (by omega))) ?_
  refine lv_aload_n hx hb dL_law_595 rfl (lv_at hl 4 rfl) ?_
  refine zl_sys (As := [.ref (S.A 0), .int (xs (5 * t + 1)), .ref oa]) (rest := []) ⟨hx, hb, hml, hown, hts⟩ (ct_X0_turn l hl0 g As S X T hY oa f hoa hI.I hI.1.ko hI.1.kk hI.z12 hI.cn2 (zturn hI.1) (xs (5 * t + 1))) zn_X0_turn (lw_SW q738 q739 q38 q740) (Nat.le_of_ble_eq_true rfl) (Nat.le_of_ble_eq_true rfl) hK hAs hS hT rfl hl.1 (Nat.le_of_ble_eq_true rfl) dL_law_596 ⟨by show _ + 5 ≤ 1200384; omega, by show _ + 26 ≤ 5488298; omega⟩ (fun r u H1 locs1 hp hT1 hz hkk hS1 => ?_)
  obtain ⟨hr, hn1, hp⟩ := hp
  obtain ⟨hI1, hA1, hY1, hv1⟩ := zStep.out (zp_turn hI (xs (5 * t + 1))) hI hr hp
  have hw := zLw.sys (B := fun q : Nat => s.heap.size ≤ q) hT hM hAs hAm hdj hT1 hn1 hY1 hA1 hz hkk
  obtain ⟨T, As, Am, hT, hoa, hY, hA0, hM, hAs, hAm, hdj⟩ := hw
  have hS := hS1
  refine lv_istore (lv' := [(5, .int r), (4, .int (nI (5 * t))), (0, .ref b), (1, .ref (S.A 0)), (2, .ref mo), (3, .ref oa)]) hx hb dL_law_599 hl (by decide) rfl (fun ls hl => ?_)
  refine lv_aload_n hx hb dL_law_601 rfl (lv_at hl 4 rfl) ?_
  refine lv_aload_n hx hb dL_law_602 rfl (lv_at hl 2 rfl) ?_
  refine lv_iload hx hb dL_law_603 (lv_at hl 1 rfl) ?_
  refine lv_iconst (v := 1) hx hb dL_law_605 (by decide) ?_
  refine lv_iadd hx hb dL_law_606 ?_
  refine zm_topi (y := nI (5 * t + 1)) (nI_add (5 * t) 1) ?_
  refine va_sld hx hb hX hbl hbA hS (vp_in_nI (n := 5 * t + 1) (N := L) (by omega) (by omega)) dL_law_607 ?_
  refine zm_topi (y := xs (5 * t + 1)) (congrArg xs (nI_clamp (n := 5 * t + 1) (by omega))) ?_
  refine zl_mod (As := [.int (xs (5 * t + 1))]) (rest := []) ⟨hx, hb, hml, hown, hts⟩ (ct_X3_turn l g Am mo ma X (xs (5 * t + 1)) hI.I hI.z12) zn_X3_turn (lw_V q1200 q1201 q1202 q48 q1203) rfl (Nat.le_of_ble_eq_true rfl) (Nat.le_of_ble_eq_true rfl) hK hAm hS hM (zx_recv (hK.narrow hAm) hM) rfl hl.1 (Nat.le_of_ble_eq_true rfl) dL_law_608 ⟨by show _ + 0 ≤ 1200384; omega, by show _ + 0 ≤ 5488298; omega⟩ (fun r2 u H1 locs1 hp hM1 hz hkk hS1 => ?_)
  subst hp
  have hw := zLw.mod (B := fun q : Nat => s.heap.size ≤ q) hT hoa hY hA0 hM hAs hAm hdj hM1 hz hkk
  obtain ⟨T, As, Am, hT, hoa, hY, hA0, hM, hAs, hAm, hdj⟩ := hw
  have hS := hS1
  refine lv_istore (lv' := [(6, .int ((m_turn X (xs (5 * t + 1))).1)), (5, .int r), (4, .int (nI (5 * t))), (0, .ref b), (1, .ref (S.A 0)), (2, .ref mo), (3, .ref oa)]) hx hb dL_law_611 hl (by decide) rfl (fun ls hl => ?_)
  refine lv_aload_n hx hb dL_law_613 rfl (lv_at hl 5 rfl) ?_
  refine zl_mod (As := []) (rest := []) ⟨hx, hb, hml, hown, hts⟩ (ct_X3_thrown l g Am mo ma (m_turn X (xs (5 * t + 1))).2) zn_X3_thrown (lw_V q1122 q1123 q1124 q48 q1125) rfl (Nat.le_of_ble_eq_true rfl) (Nat.le_of_ble_eq_true rfl) hK hAm hS hM (zx_recv (hK.narrow hAm) hM) rfl hl.1 (Nat.le_of_ble_eq_true rfl) dL_law_614 ⟨by show _ + 0 ≤ 1200384; omega, by show _ + 0 ≤ 5488298; omega⟩ (fun r2 u H1 locs1 hp hM1 hz hkk hS1 => ?_)
  subst hp
  have hw := zLw.mod (B := fun q : Nat => s.heap.size ≤ q) hT hoa hY hA0 hM hAs hAm hdj hM1 hz hkk
  obtain ⟨T, As, Am, hT, hoa, hY, hA0, hM, hAs, hAm, hdj⟩ := hw
  have hS := hS1
  have hw : zLw g (fun q : Nat => s.heap.size ≤ q) (S.A 0) mo oa ma _ _ _ _ _ := ⟨T, As, Am, hT, hoa, hY, hA0, hM, hAs, hAm, hdj⟩
  refine lv_iload hx hb dL_law_617 (lv_at hl 1 rfl) ?_
  refine lv_icmp_eq (tgt := 624) hx hb dL_law_619 (by decide) (fun _ => ?_) (fun z => absurd hr.symm z)
  refine lv_iload hx hb dL_law_624 (lv_at hl 1 rfl) ?_
  refine lv_if_ne (tgt := 641) hx hb dL_law_626 (by decide) (fun _ => ?_) (fun c0 => ?_)
  · refine lv_goto (tgt := 2013) hx hb dL_law_641 (by decide) ?_
    refine W.widen (k := cells + 100) (n := slots + 2000) (by omega) (by omega) ?_
    exact K _ _ _ _ _ _ hI1 hw hS (lv_sub hl [2, 3, 4, 5, 6] rfl)
  · refine lv_aload_n hx hb dL_law_629 rfl (lv_at hl 6 rfl) ?_
    refine lv_iconst (v := 0) hx hb dL_law_630 (by decide) ?_
    refine zt_lld (k := 0) hx hb hK.1 hT (va_up_self _ _ _) (by decide) (by decide) dL_law_631 ?_
    refine lv_iload hx hb dL_law_632 (lv_at hl 0 rfl) ?_
    refine lv_i2l hx hb dL_law_634 rfl ?_
    refine W.lcmp hx hb dL_law_635 ?_
    refine zm_topi (y := 0) (zcmp0 (hv1 c0)) ?_
    refine lv_if_eq (tgt := 641) hx hb dL_law_636 (by decide) (fun _ => ?_) (fun z => absurd rfl z)
    refine lv_goto (tgt := 2013) hx hb dL_law_641 (by decide) ?_
    refine W.widen (k := cells + 100) (n := slots + 2000) (by omega) (by omega) ?_
    exact K _ _ _ _ _ _ hI1 hw hS (lv_sub hl [2, 3, 4, 5, 6] rfl)
set_option maxHeartbeats 4000000 in
theorem cs_7 {p : Program} {l : Launch} {e : Env} {s : State} {m : MethodId} {below : List Frame} {meth : Method} {c : Code} {Q : State → Prop} {b L : Nat} {xs : Nat → Int32} {g : zG} {xo mo oa : Nat} {ma : Nat → Nat} (C0 : zFx p l s m c b L xs g) {t : Nat} (ht : 5 * t + 5 ≤ L) {S : zS} {X : zX} (hI : zIv t S X) {f : Nat → Int64} {H : Heap} {locs : List Loc} {cells slots : Nat} (hcells : cells + 100 ≤ 1200384) (hslots : slots + 2000 ≤ 5488298) (hw : zLw g (fun q : Nat => s.heap.size ≤ q) xo mo oa ma S X X f H) (hS : va_S (fun q : Nat => s.heap.size ≤ q) s.heap H locs) {ls : Array Slot} (hl : lv_has ls 7 [(4, .int (nI (5 * t))), (0, .ref b), (1, .ref xo), (2, .ref mo), (3, .ref oa)]) (K : zKt p l e s m below meth c b g xo mo oa ma t (cells + 100) (slots + 2000) Q) : W p l e room_1 s m #[Value.ref b] below meth c H locs cells slots Q (F0 m 644 ls []) := by
  obtain ⟨hL, hl0, hx, hb, hml, hown, hts, hX, hbl, hK⟩ := C0
  have hbA : ¬ (fun q : Nat => s.heap.size ≤ q) b := Nat.not_le.mpr hbl
  obtain ⟨T, As, Am, hT, hoa, hY, hA0, hM, hAs, hAm, hdj⟩ := hw
  subst hA0
  have ht99 : t ≤ 99 := by omega
  refine lv_aload_n hx hb dL_law_644 rfl (lv_at hl 2 rfl) ?_
  refine lv_aload_n hx hb dL_law_645 rfl (lv_at hl 1 rfl) ?_
  refine lv_iload hx hb dL_law_646 (lv_at hl 0 rfl) ?_
  refine lv_iconst (v := 1) hx hb dL_law_648 (by decide) ?_
  refine lv_iadd hx hb dL_law_649 ?_
  refine zm_topi (y := nI (5 * t + 1)) (nI_add (5 * t) 1) ?_
  refine va_sld hx hb hX hbl hbA hS (vp_in_nI (n := 5 * t + 1) (N := L) (by omega) (by omega)) dL_law_650 ?_
  refine zm_topi (y := xs (5 * t + 1)) (congrArg xs (nI_clamp (n := 5 * t + 1) (by omega))) ?_
  refine lv_aload_n hx hb dL_law_651 rfl (lv_at hl 1 rfl) ?_
  refine lv_iload hx hb dL_law_652 (lv_at hl 0 rfl) ?_
  refine lv_iconst (v := 2) hx hb dL_law_654 (by decide) ?_
  refine lv_iadd hx hb dL_law_655 ?_
  refine zm_topi (y := nI (5 * t + 2)) (nI_add (5 * t) 2) ?_
  refine va_sld hx hb hX hbl hbA hS (vp_in_nI (n := 5 * t + 2) (N := L) (by omega) (by omega)) dL_law_656 ?_
  refine zm_topi (y := xs (5 * t + 2)) (congrArg xs (nI_clamp (n := 5 * t + 2) (by omega))) ?_
  refine lv_aload_n hx hb dL_law_657 rfl (lv_at hl 4 rfl) ?_
  refine zl_sys (As := [.ref (S.A 0), .int (xs (5 * t + 1)), .int (xs (5 * t + 2)), .ref oa]) (rest := []) ⟨hx, hb, hml, hown, hts⟩ (ct_X0_gate l hl0 g As S X T hY oa f hoa hI.I (xs (5 * t + 1)) (xs (5 * t + 2))) zn_X0_gate (lw_SW q796 q797 q38 q798) (Nat.le_of_ble_eq_true rfl) (Nat.le_of_ble_eq_true rfl) hK hAs hS hT rfl hl.1 (Nat.le_of_ble_eq_true rfl) dL_law_658 ⟨by show _ + 3 ≤ 1200384; omega, by show _ + 18 ≤ 5488298; omega⟩ (fun r u H1 locs1 hp hT1 hz hkk hS1 => ?_)
  obtain ⟨hr, hn1, hp⟩ := hp
  obtain ⟨hI1, hA1, hY1, hv1⟩ := zStep.out (zp_gate hI (xs (5 * t + 1)) (xs (5 * t + 2))) hI hr hp
  have hw := zLw.sys (B := fun q : Nat => s.heap.size ≤ q) hT hM hAs hAm hdj hT1 hn1 hY1 hA1 hz hkk
  obtain ⟨T, As, Am, hT, hoa, hY, hA0, hM, hAs, hAm, hdj⟩ := hw
  have hS := hS1
  refine lv_istore (lv' := [(5, .int r), (4, .int (nI (5 * t))), (0, .ref b), (1, .ref (S.A 0)), (2, .ref mo), (3, .ref oa)]) hx hb dL_law_661 hl (by decide) rfl (fun ls hl => ?_)
  refine lv_aload_n hx hb dL_law_663 rfl (lv_at hl 4 rfl) ?_
  refine lv_aload_n hx hb dL_law_664 rfl (lv_at hl 2 rfl) ?_
  refine lv_iload hx hb dL_law_665 (lv_at hl 1 rfl) ?_
  refine lv_iconst (v := 1) hx hb dL_law_667 (by decide) ?_
  refine lv_iadd hx hb dL_law_668 ?_
  refine zm_topi (y := nI (5 * t + 1)) (nI_add (5 * t) 1) ?_
  refine va_sld hx hb hX hbl hbA hS (vp_in_nI (n := 5 * t + 1) (N := L) (by omega) (by omega)) dL_law_669 ?_
  refine zm_topi (y := xs (5 * t + 1)) (congrArg xs (nI_clamp (n := 5 * t + 1) (by omega))) ?_
  refine lv_aload_n hx hb dL_law_670 rfl (lv_at hl 2 rfl) ?_
  refine lv_iload hx hb dL_law_671 (lv_at hl 1 rfl) ?_
  refine lv_iconst (v := 2) hx hb dL_law_673 (by decide) ?_
  refine lv_iadd hx hb dL_law_674 ?_
  refine zm_topi (y := nI (5 * t + 2)) (nI_add (5 * t) 2) ?_
  refine va_sld hx hb hX hbl hbA hS (vp_in_nI (n := 5 * t + 2) (N := L) (by omega) (by omega)) dL_law_675 ?_
  refine zm_topi (y := xs (5 * t + 2)) (congrArg xs (nI_clamp (n := 5 * t + 2) (by omega))) ?_
  refine zl_mod (As := [.int (xs (5 * t + 1)), .int (xs (5 * t + 2))]) (rest := []) ⟨hx, hb, hml, hown, hts⟩ (ct_X3_gate l g Am mo ma X (xs (5 * t + 1)) (xs (5 * t + 2)) hI.I) zn_X3_gate (lw_V q1212 q1213 q1214 q48 q1215) rfl (Nat.le_of_ble_eq_true rfl) (Nat.le_of_ble_eq_true rfl) hK hAm hS hM (zx_recv (hK.narrow hAm) hM) rfl hl.1 (Nat.le_of_ble_eq_true rfl) dL_law_676 ⟨by show _ + 0 ≤ 1200384; omega, by show _ + 0 ≤ 5488298; omega⟩ (fun r2 u H1 locs1 hp hM1 hz hkk hS1 => ?_)
  subst hp
  have hw := zLw.mod (B := fun q : Nat => s.heap.size ≤ q) hT hoa hY hA0 hM hAs hAm hdj hM1 hz hkk
  obtain ⟨T, As, Am, hT, hoa, hY, hA0, hM, hAs, hAm, hdj⟩ := hw
  have hS := hS1
  refine lv_istore (lv' := [(6, .int ((m_gate X (xs (5 * t + 1)) (xs (5 * t + 2))).1)), (5, .int r), (4, .int (nI (5 * t))), (0, .ref b), (1, .ref (S.A 0)), (2, .ref mo), (3, .ref oa)]) hx hb dL_law_679 hl (by decide) rfl (fun ls hl => ?_)
  refine lv_aload_n hx hb dL_law_681 rfl (lv_at hl 5 rfl) ?_
  refine zl_mod (As := []) (rest := []) ⟨hx, hb, hml, hown, hts⟩ (ct_X3_thrown l g Am mo ma (m_gate X (xs (5 * t + 1)) (xs (5 * t + 2))).2) zn_X3_thrown (lw_V q1122 q1123 q1124 q48 q1125) rfl (Nat.le_of_ble_eq_true rfl) (Nat.le_of_ble_eq_true rfl) hK hAm hS hM (zx_recv (hK.narrow hAm) hM) rfl hl.1 (Nat.le_of_ble_eq_true rfl) dL_law_682 ⟨by show _ + 0 ≤ 1200384; omega, by show _ + 0 ≤ 5488298; omega⟩ (fun r2 u H1 locs1 hp hM1 hz hkk hS1 => ?_)
  subst hp
  have hw := zLw.mod (B := fun q : Nat => s.heap.size ≤ q) hT hoa hY hA0 hM hAs hAm hdj hM1 hz hkk
  obtain ⟨T, As, Am, hT, hoa, hY, hA0, hM, hAs, hAm, hdj⟩ := hw
  have hS := hS1
  have hw : zLw g (fun q : Nat => s.heap.size ≤ q) (S.A 0) mo oa ma _ _ _ _ _ := ⟨T, As, Am, hT, hoa, hY, hA0, hM, hAs, hAm, hdj⟩
  refine lv_iload hx hb dL_law_685 (lv_at hl 1 rfl) ?_
  refine lv_icmp_eq (tgt := 692) hx hb dL_law_687 (by decide) (fun _ => ?_) (fun z => absurd hr.symm z)
  refine lv_iload hx hb dL_law_692 (lv_at hl 1 rfl) ?_
  refine lv_if_ne (tgt := 709) hx hb dL_law_694 (by decide) (fun _ => ?_) (fun c0 => ?_)
  · refine lv_goto (tgt := 2013) hx hb dL_law_709 (by decide) ?_
    refine W.widen (k := cells + 100) (n := slots + 2000) (by omega) (by omega) ?_
    exact K _ _ _ _ _ _ hI1 hw hS (lv_sub hl [2, 3, 4, 5, 6] rfl)
  · refine lv_aload_n hx hb dL_law_697 rfl (lv_at hl 6 rfl) ?_
    refine lv_iconst (v := 0) hx hb dL_law_698 (by decide) ?_
    refine zt_lld (k := 0) hx hb hK.1 hT (va_up_self _ _ _) (by decide) (by decide) dL_law_699 ?_
    refine lv_iload hx hb dL_law_700 (lv_at hl 0 rfl) ?_
    refine lv_i2l hx hb dL_law_702 rfl ?_
    refine W.lcmp hx hb dL_law_703 ?_
    refine zm_topi (y := 0) (zcmp0 (hv1 c0)) ?_
    refine lv_if_eq (tgt := 709) hx hb dL_law_704 (by decide) (fun _ => ?_) (fun z => absurd rfl z)
    refine lv_goto (tgt := 2013) hx hb dL_law_709 (by decide) ?_
    refine W.widen (k := cells + 100) (n := slots + 2000) (by omega) (by omega) ?_
    exact K _ _ _ _ _ _ hI1 hw hS (lv_sub hl [2, 3, 4, 5, 6] rfl)
set_option maxHeartbeats 4000000 in
theorem cs_8 {p : Program} {l : Launch} {e : Env} {s : State} {m : MethodId} {below : List Frame} {meth : Method} {c : Code} {Q : State → Prop} {b L : Nat} {xs : Nat → Int32} {g : zG} {xo mo oa : Nat} {ma : Nat → Nat} (C0 : zFx p l s m c b L xs g) {t : Nat} (ht : 5 * t + 5 ≤ L) {S : zS} {X : zX} (hI : zIv t S X) {f : Nat → Int64} {H : Heap} {locs : List Loc} {cells slots : Nat} (hcells : cells + 100 ≤ 1200384) (hslots : slots + 2000 ≤ 5488298) (hw : zLw g (fun q : Nat => s.heap.size ≤ q) xo mo oa ma S X X f H) (hS : va_S (fun q : Nat => s.heap.size ≤ q) s.heap H locs) {ls : Array Slot} (hl : lv_has ls 7 [(4, .int (nI (5 * t))), (0, .ref b), (1, .ref xo), (2, .ref mo), (3, .ref oa)]) (K : zKt p l e s m below meth c b g xo mo oa ma t (cells + 100) (slots + 2000) Q) : W p l e room_1 s m #[Value.ref b] below meth c H locs cells slots Q (F0 m 712 ls []) := by
  obtain ⟨hL, hl0, hx, hb, hml, hown, hts, hX, hbl, hK⟩ := C0
  have hbA : ¬ (fun q : Nat => s.heap.size ≤ q) b := Nat.not_le.mpr hbl
  obtain ⟨T, As, Am, hT, hoa, hY, hA0, hM, hAs, hAm, hdj⟩ := hw
  subst hA0
  have ht99 : t ≤ 99 := by omega
  refine lv_aload_n hx hb dL_law_712 rfl (lv_at hl 2 rfl) ?_
  refine lv_aload_n hx hb dL_law_713 rfl (lv_at hl 1 rfl) ?_
  refine lv_iload hx hb dL_law_714 (lv_at hl 0 rfl) ?_
  refine lv_iconst (v := 1) hx hb dL_law_716 (by decide) ?_
  refine lv_iadd hx hb dL_law_717 ?_
  refine zm_topi (y := nI (5 * t + 1)) (nI_add (5 * t) 1) ?_
  refine va_sld hx hb hX hbl hbA hS (vp_in_nI (n := 5 * t + 1) (N := L) (by omega) (by omega)) dL_law_718 ?_
  refine zm_topi (y := xs (5 * t + 1)) (congrArg xs (nI_clamp (n := 5 * t + 1) (by omega))) ?_
  refine lv_aload_n hx hb dL_law_719 rfl (lv_at hl 4 rfl) ?_
  refine zl_sys (As := [.ref (S.A 0), .int (xs (5 * t + 1)), .ref oa]) (rest := []) ⟨hx, hb, hml, hown, hts⟩ (ct_X0_examine l hl0 g As S X T hY oa f hoa hI.I hI.z12 (xs (5 * t + 1))) zn_X0_examine (lw_SW q803 q804 q38 q805) (Nat.le_of_ble_eq_true rfl) (Nat.le_of_ble_eq_true rfl) hK hAs hS hT rfl hl.1 (Nat.le_of_ble_eq_true rfl) dL_law_720 ⟨by show _ + 2 ≤ 1200384; omega, by show _ + 12 ≤ 5488298; omega⟩ (fun r u H1 locs1 hp hT1 hz hkk hS1 => ?_)
  obtain ⟨hr, hn1, hp⟩ := hp
  obtain ⟨hI1, hA1, hY1, hv1⟩ := zStep.out (zp_examine hI (xs (5 * t + 1))) hI hr hp
  have hw := zLw.sys (B := fun q : Nat => s.heap.size ≤ q) hT hM hAs hAm hdj hT1 hn1 hY1 hA1 hz hkk
  obtain ⟨T, As, Am, hT, hoa, hY, hA0, hM, hAs, hAm, hdj⟩ := hw
  have hS := hS1
  refine lv_istore (lv' := [(5, .int r), (4, .int (nI (5 * t))), (0, .ref b), (1, .ref (S.A 0)), (2, .ref mo), (3, .ref oa)]) hx hb dL_law_723 hl (by decide) rfl (fun ls hl => ?_)
  refine lv_aload_n hx hb dL_law_725 rfl (lv_at hl 4 rfl) ?_
  refine lv_aload_n hx hb dL_law_726 rfl (lv_at hl 2 rfl) ?_
  refine lv_iload hx hb dL_law_727 (lv_at hl 1 rfl) ?_
  refine lv_iconst (v := 1) hx hb dL_law_729 (by decide) ?_
  refine lv_iadd hx hb dL_law_730 ?_
  refine zm_topi (y := nI (5 * t + 1)) (nI_add (5 * t) 1) ?_
  refine va_sld hx hb hX hbl hbA hS (vp_in_nI (n := 5 * t + 1) (N := L) (by omega) (by omega)) dL_law_731 ?_
  refine zm_topi (y := xs (5 * t + 1)) (congrArg xs (nI_clamp (n := 5 * t + 1) (by omega))) ?_
  refine zl_mod (As := [.int (xs (5 * t + 1))]) (rest := []) ⟨hx, hb, hml, hown, hts⟩ (ct_X3_examine l g Am mo ma X (xs (5 * t + 1)) hI.I hI.z12) zn_X3_examine (lw_V q1216 q1217 q1218 q48 q1219) rfl (Nat.le_of_ble_eq_true rfl) (Nat.le_of_ble_eq_true rfl) hK hAm hS hM (zx_recv (hK.narrow hAm) hM) rfl hl.1 (Nat.le_of_ble_eq_true rfl) dL_law_732 ⟨by show _ + 0 ≤ 1200384; omega, by show _ + 0 ≤ 5488298; omega⟩ (fun r2 u H1 locs1 hp hM1 hz hkk hS1 => ?_)
  subst hp
  have hw := zLw.mod (B := fun q : Nat => s.heap.size ≤ q) hT hoa hY hA0 hM hAs hAm hdj hM1 hz hkk
  obtain ⟨T, As, Am, hT, hoa, hY, hA0, hM, hAs, hAm, hdj⟩ := hw
  have hS := hS1
  refine lv_istore (lv' := [(6, .int ((m_examine X (xs (5 * t + 1))).1)), (5, .int r), (4, .int (nI (5 * t))), (0, .ref b), (1, .ref (S.A 0)), (2, .ref mo), (3, .ref oa)]) hx hb dL_law_735 hl (by decide) rfl (fun ls hl => ?_)
  refine lv_aload_n hx hb dL_law_737 rfl (lv_at hl 5 rfl) ?_
  refine zl_mod (As := []) (rest := []) ⟨hx, hb, hml, hown, hts⟩ (ct_X3_thrown l g Am mo ma (m_examine X (xs (5 * t + 1))).2) zn_X3_thrown (lw_V q1122 q1123 q1124 q48 q1125) rfl (Nat.le_of_ble_eq_true rfl) (Nat.le_of_ble_eq_true rfl) hK hAm hS hM (zx_recv (hK.narrow hAm) hM) rfl hl.1 (Nat.le_of_ble_eq_true rfl) dL_law_738 ⟨by show _ + 0 ≤ 1200384; omega, by show _ + 0 ≤ 5488298; omega⟩ (fun r2 u H1 locs1 hp hM1 hz hkk hS1 => ?_)
  subst hp
  have hw := zLw.mod (B := fun q : Nat => s.heap.size ≤ q) hT hoa hY hA0 hM hAs hAm hdj hM1 hz hkk
  obtain ⟨T, As, Am, hT, hoa, hY, hA0, hM, hAs, hAm, hdj⟩ := hw
  have hS := hS1
  have hw : zLw g (fun q : Nat => s.heap.size ≤ q) (S.A 0) mo oa ma _ _ _ _ _ := ⟨T, As, Am, hT, hoa, hY, hA0, hM, hAs, hAm, hdj⟩
  refine lv_iload hx hb dL_law_741 (lv_at hl 1 rfl) ?_
  refine lv_icmp_eq (tgt := 748) hx hb dL_law_743 (by decide) (fun _ => ?_) (fun z => absurd hr.symm z)
  refine lv_iload hx hb dL_law_748 (lv_at hl 1 rfl) ?_
  refine lv_if_ne (tgt := 765) hx hb dL_law_750 (by decide) (fun _ => ?_) (fun c0 => ?_)
  · refine lv_goto (tgt := 2013) hx hb dL_law_765 (by decide) ?_
    refine W.widen (k := cells + 100) (n := slots + 2000) (by omega) (by omega) ?_
    exact K _ _ _ _ _ _ hI1 hw hS (lv_sub hl [2, 3, 4, 5, 6] rfl)
  · refine lv_aload_n hx hb dL_law_753 rfl (lv_at hl 6 rfl) ?_
    refine lv_iconst (v := 0) hx hb dL_law_754 (by decide) ?_
    refine zt_lld (k := 0) hx hb hK.1 hT (va_up_self _ _ _) (by decide) (by decide) dL_law_755 ?_
    refine lv_iload hx hb dL_law_756 (lv_at hl 0 rfl) ?_
    refine lv_i2l hx hb dL_law_758 rfl ?_
    refine W.lcmp hx hb dL_law_759 ?_
    refine zm_topi (y := 0) (zcmp0 (hv1 c0)) ?_
    refine lv_if_eq (tgt := 765) hx hb dL_law_760 (by decide) (fun _ => ?_) (fun z => absurd rfl z)
    refine lv_goto (tgt := 2013) hx hb dL_law_765 (by decide) ?_
    refine W.widen (k := cells + 100) (n := slots + 2000) (by omega) (by omega) ?_
    exact K _ _ _ _ _ _ hI1 hw hS (lv_sub hl [2, 3, 4, 5, 6] rfl)
set_option maxHeartbeats 4000000 in
theorem cs_9 {p : Program} {l : Launch} {e : Env} {s : State} {m : MethodId} {below : List Frame} {meth : Method} {c : Code} {Q : State → Prop} {b L : Nat} {xs : Nat → Int32} {g : zG} {xo mo oa : Nat} {ma : Nat → Nat} (C0 : zFx p l s m c b L xs g) {t : Nat} (ht : 5 * t + 5 ≤ L) {S : zS} {X : zX} (hI : zIv t S X) {f : Nat → Int64} {H : Heap} {locs : List Loc} {cells slots : Nat} (hcells : cells + 100 ≤ 1200384) (hslots : slots + 2000 ≤ 5488298) (hw : zLw g (fun q : Nat => s.heap.size ≤ q) xo mo oa ma S X X f H) (hS : va_S (fun q : Nat => s.heap.size ≤ q) s.heap H locs) {ls : Array Slot} (hl : lv_has ls 7 [(4, .int (nI (5 * t))), (0, .ref b), (1, .ref xo), (2, .ref mo), (3, .ref oa)]) (K : zKt p l e s m below meth c b g xo mo oa ma t (cells + 100) (slots + 2000) Q) : W p l e room_1 s m #[Value.ref b] below meth c H locs cells slots Q (F0 m 768 ls []) := by
  obtain ⟨hL, hl0, hx, hb, hml, hown, hts, hX, hbl, hK⟩ := C0
  have hbA : ¬ (fun q : Nat => s.heap.size ≤ q) b := Nat.not_le.mpr hbl
  obtain ⟨T, As, Am, hT, hoa, hY, hA0, hM, hAs, hAm, hdj⟩ := hw
  subst hA0
  have ht99 : t ≤ 99 := by omega
  refine lv_aload_n hx hb dL_law_768 rfl (lv_at hl 2 rfl) ?_
  refine lv_aload_n hx hb dL_law_769 rfl (lv_at hl 1 rfl) ?_
  refine lv_iload hx hb dL_law_770 (lv_at hl 0 rfl) ?_
  refine lv_iconst (v := 1) hx hb dL_law_772 (by decide) ?_
  refine lv_iadd hx hb dL_law_773 ?_
  refine zm_topi (y := nI (5 * t + 1)) (nI_add (5 * t) 1) ?_
  refine va_sld hx hb hX hbl hbA hS (vp_in_nI (n := 5 * t + 1) (N := L) (by omega) (by omega)) dL_law_774 ?_
  refine zm_topi (y := xs (5 * t + 1)) (congrArg xs (nI_clamp (n := 5 * t + 1) (by omega))) ?_
  refine lv_aload_n hx hb dL_law_775 rfl (lv_at hl 1 rfl) ?_
  refine lv_iload hx hb dL_law_776 (lv_at hl 0 rfl) ?_
  refine lv_iconst (v := 2) hx hb dL_law_778 (by decide) ?_
  refine lv_iadd hx hb dL_law_779 ?_
  refine zm_topi (y := nI (5 * t + 2)) (nI_add (5 * t) 2) ?_
  refine va_sld hx hb hX hbl hbA hS (vp_in_nI (n := 5 * t + 2) (N := L) (by omega) (by omega)) dL_law_780 ?_
  refine zm_topi (y := xs (5 * t + 2)) (congrArg xs (nI_clamp (n := 5 * t + 2) (by omega))) ?_
  refine zl_sys (As := [.ref (S.A 0), .int (xs (5 * t + 1)), .int (xs (5 * t + 2))]) (rest := []) ⟨hx, hb, hml, hown, hts⟩ (ct_X0_waive l hl0 g (fun q => As q ∧ q ≠ oa) S X T hY hI.I hI.2.1.2.2.2.1 hI.2.1.2.2.2.2 (xs (5 * t + 1)) (xs (5 * t + 2))) zn_X0_waive (lw_SW q810 q811 q38 q812) (Nat.le_of_ble_eq_true rfl) (Nat.le_of_ble_eq_true rfl) hK (fun q h => hAs q h.1) hS (hT.split hoa) rfl hl.1 (Nat.le_of_ble_eq_true rfl) dL_law_781 ⟨by show _ + 3 ≤ 1200384; omega, by show _ + 18 ≤ 5488298; omega⟩ (fun r u H1 locs1 hp hT1 hz hkk hS1 => ?_)
  obtain ⟨hr, hp⟩ := hp
  obtain ⟨hI1, hA1, hY1⟩ := zStep.out2 (zp_waive hI (xs (5 * t + 1)) (xs (5 * t + 2))) hI hr hp
  obtain ⟨hT2, hn1⟩ := zTH.join hT hT1 (hkk oa (hT.lt (va_up_self _ _ _)) (fun z => z.2 rfl))
  have hw := zLw.sys (B := fun q : Nat => s.heap.size ≤ q) hT hM hAs hAm hdj hT2 hn1 hY1 hA1 hz (fun q h1 h2 => hkk q h1 (fun z => h2 z.1))
  obtain ⟨T, As, Am, hT, hoa, hY, hA0, hM, hAs, hAm, hdj⟩ := hw
  have hS := hS1
  refine lv_istore (lv' := [(5, .int r), (4, .int (nI (5 * t))), (0, .ref b), (1, .ref (S.A 0)), (2, .ref mo), (3, .ref oa)]) hx hb dL_law_784 hl (by decide) rfl (fun ls hl => ?_)
  refine lv_aload_n hx hb dL_law_786 rfl (lv_at hl 4 rfl) ?_
  refine lv_aload_n hx hb dL_law_787 rfl (lv_at hl 2 rfl) ?_
  refine lv_iload hx hb dL_law_788 (lv_at hl 1 rfl) ?_
  refine lv_iconst (v := 1) hx hb dL_law_790 (by decide) ?_
  refine lv_iadd hx hb dL_law_791 ?_
  refine zm_topi (y := nI (5 * t + 1)) (nI_add (5 * t) 1) ?_
  refine va_sld hx hb hX hbl hbA hS (vp_in_nI (n := 5 * t + 1) (N := L) (by omega) (by omega)) dL_law_792 ?_
  refine zm_topi (y := xs (5 * t + 1)) (congrArg xs (nI_clamp (n := 5 * t + 1) (by omega))) ?_
  refine lv_aload_n hx hb dL_law_793 rfl (lv_at hl 2 rfl) ?_
  refine lv_iload hx hb dL_law_794 (lv_at hl 1 rfl) ?_
  refine lv_iconst (v := 2) hx hb dL_law_796 (by decide) ?_
  refine lv_iadd hx hb dL_law_797 ?_
  refine zm_topi (y := nI (5 * t + 2)) (nI_add (5 * t) 2) ?_
  refine va_sld hx hb hX hbl hbA hS (vp_in_nI (n := 5 * t + 2) (N := L) (by omega) (by omega)) dL_law_798 ?_
  refine zm_topi (y := xs (5 * t + 2)) (congrArg xs (nI_clamp (n := 5 * t + 2) (by omega))) ?_
  refine zl_modv (As := [.int (xs (5 * t + 1)), .int (xs (5 * t + 2))]) (rest := []) ⟨hx, hb, hml, hown, hts⟩ (ct_X3_waive l g Am mo ma X (xs (5 * t + 1)) (xs (5 * t + 2)) hI.I) zn_X3_waive (lw_V q1220 q1221 q1222 q48 q1223) rfl (Nat.le_of_ble_eq_true rfl) (Nat.le_of_ble_eq_true rfl) hK hAm hS hM (zx_recv (hK.narrow hAm) hM) rfl hl.1 (Nat.le_of_ble_eq_true rfl) dL_law_799 ⟨by show _ + 0 ≤ 1200384; omega, by show _ + 0 ≤ 5488298; omega⟩ (fun u H1 locs1 hp hM1 hz hkk hS1 => ?_)
  have hw := zLw.mod (B := fun q : Nat => s.heap.size ≤ q) hT hoa hY hA0 hM hAs hAm hdj hM1 hz hkk
  obtain ⟨T, As, Am, hT, hoa, hY, hA0, hM, hAs, hAm, hdj⟩ := hw
  have hS := hS1
  refine lv_aload_n hx hb dL_law_802 rfl (lv_at hl 4 rfl) ?_
  refine zl_mod (As := []) (rest := []) ⟨hx, hb, hml, hown, hts⟩ (ct_X3_thrown l g Am mo ma (m_waive X (xs (5 * t + 1)) (xs (5 * t + 2)))) zn_X3_thrown (lw_V q1122 q1123 q1124 q48 q1125) rfl (Nat.le_of_ble_eq_true rfl) (Nat.le_of_ble_eq_true rfl) hK hAm hS hM (zx_recv (hK.narrow hAm) hM) rfl hl.1 (Nat.le_of_ble_eq_true rfl) dL_law_803 ⟨by show _ + 0 ≤ 1200384; omega, by show _ + 0 ≤ 5488298; omega⟩ (fun r2 u H1 locs1 hp hM1 hz hkk hS1 => ?_)
  subst hp
  have hw := zLw.mod (B := fun q : Nat => s.heap.size ≤ q) hT hoa hY hA0 hM hAs hAm hdj hM1 hz hkk
  obtain ⟨T, As, Am, hT, hoa, hY, hA0, hM, hAs, hAm, hdj⟩ := hw
  have hS := hS1
  have hw : zLw g (fun q : Nat => s.heap.size ≤ q) (S.A 0) mo oa ma _ _ _ _ _ := ⟨T, As, Am, hT, hoa, hY, hA0, hM, hAs, hAm, hdj⟩
  refine lv_iload hx hb dL_law_806 (lv_at hl 0 rfl) ?_
  refine lv_icmp_eq (tgt := 813) hx hb dL_law_808 (by decide) (fun _ => ?_) (fun z => absurd hr.symm z)
  refine lv_goto (tgt := 2013) hx hb dL_law_813 (by decide) ?_
  refine W.widen (k := cells + 100) (n := slots + 2000) (by omega) (by omega) ?_
  exact K _ _ _ _ _ _ hI1 hw hS (lv_sub hl [1, 2, 3, 4, 5] rfl)
set_option maxHeartbeats 4000000 in
theorem cs_10 {p : Program} {l : Launch} {e : Env} {s : State} {m : MethodId} {below : List Frame} {meth : Method} {c : Code} {Q : State → Prop} {b L : Nat} {xs : Nat → Int32} {g : zG} {xo mo oa : Nat} {ma : Nat → Nat} (C0 : zFx p l s m c b L xs g) {t : Nat} (ht : 5 * t + 5 ≤ L) {S : zS} {X : zX} (hI : zIv t S X) {f : Nat → Int64} {H : Heap} {locs : List Loc} {cells slots : Nat} (hcells : cells + 100 ≤ 1200384) (hslots : slots + 2000 ≤ 5488298) (hw : zLw g (fun q : Nat => s.heap.size ≤ q) xo mo oa ma S X X f H) (hS : va_S (fun q : Nat => s.heap.size ≤ q) s.heap H locs) {ls : Array Slot} (hl : lv_has ls 7 [(4, .int (nI (5 * t))), (0, .ref b), (1, .ref xo), (2, .ref mo), (3, .ref oa)]) (K : zKt p l e s m below meth c b g xo mo oa ma t (cells + 100) (slots + 2000) Q) : W p l e room_1 s m #[Value.ref b] below meth c H locs cells slots Q (F0 m 816 ls []) := by
  obtain ⟨hL, hl0, hx, hb, hml, hown, hts, hX, hbl, hK⟩ := C0
  have hbA : ¬ (fun q : Nat => s.heap.size ≤ q) b := Nat.not_le.mpr hbl
  obtain ⟨T, As, Am, hT, hoa, hY, hA0, hM, hAs, hAm, hdj⟩ := hw
  subst hA0
  have ht99 : t ≤ 99 := by omega
  refine lv_aload_n hx hb dL_law_816 rfl (lv_at hl 2 rfl) ?_
  refine lv_aload_n hx hb dL_law_817 rfl (lv_at hl 1 rfl) ?_
  refine lv_iload hx hb dL_law_818 (lv_at hl 0 rfl) ?_
  refine lv_iconst (v := 1) hx hb dL_law_820 (by decide) ?_
  refine lv_iadd hx hb dL_law_821 ?_
  refine zm_topi (y := nI (5 * t + 1)) (nI_add (5 * t) 1) ?_
  refine va_sld hx hb hX hbl hbA hS (vp_in_nI (n := 5 * t + 1) (N := L) (by omega) (by omega)) dL_law_822 ?_
  refine zm_topi (y := xs (5 * t + 1)) (congrArg xs (nI_clamp (n := 5 * t + 1) (by omega))) ?_
  refine lv_aload_n hx hb dL_law_823 rfl (lv_at hl 1 rfl) ?_
  refine lv_iload hx hb dL_law_824 (lv_at hl 0 rfl) ?_
  refine lv_iconst (v := 2) hx hb dL_law_826 (by decide) ?_
  refine lv_iadd hx hb dL_law_827 ?_
  refine zm_topi (y := nI (5 * t + 2)) (nI_add (5 * t) 2) ?_
  refine va_sld hx hb hX hbl hbA hS (vp_in_nI (n := 5 * t + 2) (N := L) (by omega) (by omega)) dL_law_828 ?_
  refine zm_topi (y := xs (5 * t + 2)) (congrArg xs (nI_clamp (n := 5 * t + 2) (by omega))) ?_
  refine lv_aload_n hx hb dL_law_829 rfl (lv_at hl 4 rfl) ?_
  refine zl_sys (As := [.ref (S.A 0), .int (xs (5 * t + 1)), .int (xs (5 * t + 2)), .ref oa]) (rest := []) ⟨hx, hb, hml, hown, hts⟩ (ct_X0_flaw l hl0 g As S X T hY oa f hoa hI.I (xs (5 * t + 1)) (xs (5 * t + 2))) zn_X0_flaw (lw_SW q817 q818 q38 q819) (Nat.le_of_ble_eq_true rfl) (Nat.le_of_ble_eq_true rfl) hK hAs hS hT rfl hl.1 (Nat.le_of_ble_eq_true rfl) dL_law_830 ⟨by show _ + 2 ≤ 1200384; omega, by show _ + 12 ≤ 5488298; omega⟩ (fun r u H1 locs1 hp hT1 hz hkk hS1 => ?_)
  obtain ⟨hr, hn1, hp⟩ := hp
  obtain ⟨hI1, hA1, hY1, hv1⟩ := zStep.out (zp_flaw hI (xs (5 * t + 1)) (xs (5 * t + 2))) hI hr hp
  have hw := zLw.sys (B := fun q : Nat => s.heap.size ≤ q) hT hM hAs hAm hdj hT1 hn1 hY1 hA1 hz hkk
  obtain ⟨T, As, Am, hT, hoa, hY, hA0, hM, hAs, hAm, hdj⟩ := hw
  have hS := hS1
  refine lv_istore (lv' := [(5, .int r), (4, .int (nI (5 * t))), (0, .ref b), (1, .ref (S.A 0)), (2, .ref mo), (3, .ref oa)]) hx hb dL_law_833 hl (by decide) rfl (fun ls hl => ?_)
  refine lv_aload_n hx hb dL_law_835 rfl (lv_at hl 4 rfl) ?_
  refine lv_aload_n hx hb dL_law_836 rfl (lv_at hl 2 rfl) ?_
  refine lv_iload hx hb dL_law_837 (lv_at hl 1 rfl) ?_
  refine lv_iconst (v := 1) hx hb dL_law_839 (by decide) ?_
  refine lv_iadd hx hb dL_law_840 ?_
  refine zm_topi (y := nI (5 * t + 1)) (nI_add (5 * t) 1) ?_
  refine va_sld hx hb hX hbl hbA hS (vp_in_nI (n := 5 * t + 1) (N := L) (by omega) (by omega)) dL_law_841 ?_
  refine zm_topi (y := xs (5 * t + 1)) (congrArg xs (nI_clamp (n := 5 * t + 1) (by omega))) ?_
  refine lv_aload_n hx hb dL_law_842 rfl (lv_at hl 2 rfl) ?_
  refine lv_iload hx hb dL_law_843 (lv_at hl 1 rfl) ?_
  refine lv_iconst (v := 2) hx hb dL_law_845 (by decide) ?_
  refine lv_iadd hx hb dL_law_846 ?_
  refine zm_topi (y := nI (5 * t + 2)) (nI_add (5 * t) 2) ?_
  refine va_sld hx hb hX hbl hbA hS (vp_in_nI (n := 5 * t + 2) (N := L) (by omega) (by omega)) dL_law_847 ?_
  refine zm_topi (y := xs (5 * t + 2)) (congrArg xs (nI_clamp (n := 5 * t + 2) (by omega))) ?_
  refine zl_mod (As := [.int (xs (5 * t + 1)), .int (xs (5 * t + 2))]) (rest := []) ⟨hx, hb, hml, hown, hts⟩ (ct_X3_flaw l g Am mo ma X (xs (5 * t + 1)) (xs (5 * t + 2)) hI.I) zn_X3_flaw (lw_V q1224 q1225 q1226 q48 q1227) rfl (Nat.le_of_ble_eq_true rfl) (Nat.le_of_ble_eq_true rfl) hK hAm hS hM (zx_recv (hK.narrow hAm) hM) rfl hl.1 (Nat.le_of_ble_eq_true rfl) dL_law_848 ⟨by show _ + 0 ≤ 1200384; omega, by show _ + 0 ≤ 5488298; omega⟩ (fun r2 u H1 locs1 hp hM1 hz hkk hS1 => ?_)
  subst hp
  have hw := zLw.mod (B := fun q : Nat => s.heap.size ≤ q) hT hoa hY hA0 hM hAs hAm hdj hM1 hz hkk
  obtain ⟨T, As, Am, hT, hoa, hY, hA0, hM, hAs, hAm, hdj⟩ := hw
  have hS := hS1
  refine lv_istore (lv' := [(6, .int ((m_flaw X (xs (5 * t + 1)) (xs (5 * t + 2))).1)), (5, .int r), (4, .int (nI (5 * t))), (0, .ref b), (1, .ref (S.A 0)), (2, .ref mo), (3, .ref oa)]) hx hb dL_law_851 hl (by decide) rfl (fun ls hl => ?_)
  refine lv_aload_n hx hb dL_law_853 rfl (lv_at hl 5 rfl) ?_
  refine zl_mod (As := []) (rest := []) ⟨hx, hb, hml, hown, hts⟩ (ct_X3_thrown l g Am mo ma (m_flaw X (xs (5 * t + 1)) (xs (5 * t + 2))).2) zn_X3_thrown (lw_V q1122 q1123 q1124 q48 q1125) rfl (Nat.le_of_ble_eq_true rfl) (Nat.le_of_ble_eq_true rfl) hK hAm hS hM (zx_recv (hK.narrow hAm) hM) rfl hl.1 (Nat.le_of_ble_eq_true rfl) dL_law_854 ⟨by show _ + 0 ≤ 1200384; omega, by show _ + 0 ≤ 5488298; omega⟩ (fun r2 u H1 locs1 hp hM1 hz hkk hS1 => ?_)
  subst hp
  have hw := zLw.mod (B := fun q : Nat => s.heap.size ≤ q) hT hoa hY hA0 hM hAs hAm hdj hM1 hz hkk
  obtain ⟨T, As, Am, hT, hoa, hY, hA0, hM, hAs, hAm, hdj⟩ := hw
  have hS := hS1
  have hw : zLw g (fun q : Nat => s.heap.size ≤ q) (S.A 0) mo oa ma _ _ _ _ _ := ⟨T, As, Am, hT, hoa, hY, hA0, hM, hAs, hAm, hdj⟩
  refine lv_iload hx hb dL_law_857 (lv_at hl 1 rfl) ?_
  refine lv_icmp_eq (tgt := 864) hx hb dL_law_859 (by decide) (fun _ => ?_) (fun z => absurd hr.symm z)
  refine lv_iload hx hb dL_law_864 (lv_at hl 1 rfl) ?_
  refine lv_if_ne (tgt := 881) hx hb dL_law_866 (by decide) (fun _ => ?_) (fun c0 => ?_)
  · refine lv_goto (tgt := 2013) hx hb dL_law_881 (by decide) ?_
    refine W.widen (k := cells + 100) (n := slots + 2000) (by omega) (by omega) ?_
    exact K _ _ _ _ _ _ hI1 hw hS (lv_sub hl [2, 3, 4, 5, 6] rfl)
  · refine lv_aload_n hx hb dL_law_869 rfl (lv_at hl 6 rfl) ?_
    refine lv_iconst (v := 0) hx hb dL_law_870 (by decide) ?_
    refine zt_lld (k := 0) hx hb hK.1 hT (va_up_self _ _ _) (by decide) (by decide) dL_law_871 ?_
    refine lv_iload hx hb dL_law_872 (lv_at hl 0 rfl) ?_
    refine lv_i2l hx hb dL_law_874 rfl ?_
    refine W.lcmp hx hb dL_law_875 ?_
    refine zm_topi (y := 0) (zcmp0 (hv1 c0)) ?_
    refine lv_if_eq (tgt := 881) hx hb dL_law_876 (by decide) (fun _ => ?_) (fun z => absurd rfl z)
    refine lv_goto (tgt := 2013) hx hb dL_law_881 (by decide) ?_
    refine W.widen (k := cells + 100) (n := slots + 2000) (by omega) (by omega) ?_
    exact K _ _ _ _ _ _ hI1 hw hS (lv_sub hl [2, 3, 4, 5, 6] rfl)
set_option maxHeartbeats 4000000 in
theorem cs_11 {p : Program} {l : Launch} {e : Env} {s : State} {m : MethodId} {below : List Frame} {meth : Method} {c : Code} {Q : State → Prop} {b L : Nat} {xs : Nat → Int32} {g : zG} {xo mo oa : Nat} {ma : Nat → Nat} (C0 : zFx p l s m c b L xs g) {t : Nat} (ht : 5 * t + 5 ≤ L) {S : zS} {X : zX} (hI : zIv t S X) {f : Nat → Int64} {H : Heap} {locs : List Loc} {cells slots : Nat} (hcells : cells + 100 ≤ 1200384) (hslots : slots + 2000 ≤ 5488298) (hw : zLw g (fun q : Nat => s.heap.size ≤ q) xo mo oa ma S X X f H) (hS : va_S (fun q : Nat => s.heap.size ≤ q) s.heap H locs) {ls : Array Slot} (hl : lv_has ls 7 [(4, .int (nI (5 * t))), (0, .ref b), (1, .ref xo), (2, .ref mo), (3, .ref oa)]) (K : zKt p l e s m below meth c b g xo mo oa ma t (cells + 100) (slots + 2000) Q) : W p l e room_1 s m #[Value.ref b] below meth c H locs cells slots Q (F0 m 884 ls []) := by
  obtain ⟨hL, hl0, hx, hb, hml, hown, hts, hX, hbl, hK⟩ := C0
  have hbA : ¬ (fun q : Nat => s.heap.size ≤ q) b := Nat.not_le.mpr hbl
  obtain ⟨T, As, Am, hT, hoa, hY, hA0, hM, hAs, hAm, hdj⟩ := hw
  subst hA0
  have ht99 : t ≤ 99 := by omega
  by_cases cb : xs (5 * t + 2) = 0
  · refine lv_aload_n hx hb dL_law_884 rfl (lv_at hl 2 rfl) ?_
    refine lv_aload_n hx hb dL_law_885 rfl (lv_at hl 1 rfl) ?_
    refine lv_iload hx hb dL_law_886 (lv_at hl 0 rfl) ?_
    refine lv_iconst (v := 1) hx hb dL_law_888 (by decide) ?_
    refine lv_iadd hx hb dL_law_889 ?_
    refine zm_topi (y := nI (5 * t + 1)) (nI_add (5 * t) 1) ?_
    refine va_sld hx hb hX hbl hbA hS (vp_in_nI (n := 5 * t + 1) (N := L) (by omega) (by omega)) dL_law_890 ?_
    refine zm_topi (y := xs (5 * t + 1)) (congrArg xs (nI_clamp (n := 5 * t + 1) (by omega))) ?_
    refine lv_aload_n hx hb dL_law_891 rfl (lv_at hl 1 rfl) ?_
    refine lv_iload hx hb dL_law_892 (lv_at hl 0 rfl) ?_
    refine lv_iconst (v := 2) hx hb dL_law_894 (by decide) ?_
    refine lv_iadd hx hb dL_law_895 ?_
    refine zm_topi (y := nI (5 * t + 2)) (nI_add (5 * t) 2) ?_
    refine va_sld hx hb hX hbl hbA hS (vp_in_nI (n := 5 * t + 2) (N := L) (by omega) (by omega)) dL_law_896 ?_
    refine zm_topi (y := xs (5 * t + 2)) (congrArg xs (nI_clamp (n := 5 * t + 2) (by omega))) ?_
    refine lv_if_eq (tgt := 904) hx hb dL_law_897 (by decide) (fun _ => ?_) (fun z => absurd cb z)
    refine lv_iconst (v := 0) hx hb dL_law_904 (by decide) ?_
    refine zm_topi (y := zb false) rfl ?_
    refine lv_aload_n hx hb dL_law_905 rfl (lv_at hl 4 rfl) ?_
    refine zl_sys (As := [.ref (S.A 0), .int (xs (5 * t + 1)), .int (zb false), .ref oa]) (rest := []) ⟨hx, hb, hml, hown, hts⟩ (ct_X0_look l hl0 g As S X T hY oa f hoa hI.I hI.z12 hI.z10 (xs (5 * t + 1)) false) zn_X0_look (lw_SW q824 q825 q38 q826) (Nat.le_of_ble_eq_true rfl) (Nat.le_of_ble_eq_true rfl) hK hAs hS hT rfl hl.1 (Nat.le_of_ble_eq_true rfl) dL_law_906 ⟨by show _ + 2 ≤ 1200384; omega, by show _ + 12 ≤ 5488298; omega⟩ (fun r u H1 locs1 hp hT1 hz hkk hS1 => ?_)
    obtain ⟨hr, hn1, hp⟩ := hp
    obtain ⟨hI1, hA1, hY1, hv1⟩ := zStep.out (zp_look hI (xs (5 * t + 1)) false) hI hr hp
    have hw := zLw.sys (B := fun q : Nat => s.heap.size ≤ q) hT hM hAs hAm hdj hT1 hn1 hY1 hA1 hz hkk
    obtain ⟨T, As, Am, hT, hoa, hY, hA0, hM, hAs, hAm, hdj⟩ := hw
    have hS := hS1
    refine lv_istore (lv' := [(5, .int r), (4, .int (nI (5 * t))), (0, .ref b), (1, .ref (S.A 0)), (2, .ref mo), (3, .ref oa)]) hx hb dL_law_909 hl (by decide) rfl (fun ls hl => ?_)
    refine lv_aload_n hx hb dL_law_911 rfl (lv_at hl 4 rfl) ?_
    refine lv_aload_n hx hb dL_law_912 rfl (lv_at hl 2 rfl) ?_
    refine lv_iload hx hb dL_law_913 (lv_at hl 1 rfl) ?_
    refine lv_iconst (v := 1) hx hb dL_law_915 (by decide) ?_
    refine lv_iadd hx hb dL_law_916 ?_
    refine zm_topi (y := nI (5 * t + 1)) (nI_add (5 * t) 1) ?_
    refine va_sld hx hb hX hbl hbA hS (vp_in_nI (n := 5 * t + 1) (N := L) (by omega) (by omega)) dL_law_917 ?_
    refine zm_topi (y := xs (5 * t + 1)) (congrArg xs (nI_clamp (n := 5 * t + 1) (by omega))) ?_
    refine lv_aload_n hx hb dL_law_918 rfl (lv_at hl 2 rfl) ?_
    refine lv_iload hx hb dL_law_919 (lv_at hl 1 rfl) ?_
    refine lv_iconst (v := 2) hx hb dL_law_921 (by decide) ?_
    refine lv_iadd hx hb dL_law_922 ?_
    refine zm_topi (y := nI (5 * t + 2)) (nI_add (5 * t) 2) ?_
    refine va_sld hx hb hX hbl hbA hS (vp_in_nI (n := 5 * t + 2) (N := L) (by omega) (by omega)) dL_law_923 ?_
    refine zm_topi (y := xs (5 * t + 2)) (congrArg xs (nI_clamp (n := 5 * t + 2) (by omega))) ?_
    refine lv_if_eq (tgt := 931) hx hb dL_law_924 (by decide) (fun _ => ?_) (fun z => absurd cb z)
    refine lv_iconst (v := 0) hx hb dL_law_931 (by decide) ?_
    refine zm_topi (y := zb false) rfl ?_
    refine zl_mod (As := [.int (xs (5 * t + 1)), .int (zb false)]) (rest := []) ⟨hx, hb, hml, hown, hts⟩ (ct_X3_look l g Am mo ma X (xs (5 * t + 1)) false hI.I hI.z12 hI.z10) zn_X3_look (lw_V q1228 q1229 q1230 q48 q1231) rfl (Nat.le_of_ble_eq_true rfl) (Nat.le_of_ble_eq_true rfl) hK hAm hS hM (zx_recv (hK.narrow hAm) hM) rfl hl.1 (Nat.le_of_ble_eq_true rfl) dL_law_932 ⟨by show _ + 0 ≤ 1200384; omega, by show _ + 0 ≤ 5488298; omega⟩ (fun r2 u H1 locs1 hp hM1 hz hkk hS1 => ?_)
    subst hp
    have hw := zLw.mod (B := fun q : Nat => s.heap.size ≤ q) hT hoa hY hA0 hM hAs hAm hdj hM1 hz hkk
    obtain ⟨T, As, Am, hT, hoa, hY, hA0, hM, hAs, hAm, hdj⟩ := hw
    have hS := hS1
    refine lv_istore (lv' := [(6, .int ((m_look X (xs (5 * t + 1)) false).1)), (5, .int r), (4, .int (nI (5 * t))), (0, .ref b), (1, .ref (S.A 0)), (2, .ref mo), (3, .ref oa)]) hx hb dL_law_935 hl (by decide) rfl (fun ls hl => ?_)
    refine lv_aload_n hx hb dL_law_937 rfl (lv_at hl 5 rfl) ?_
    refine zl_mod (As := []) (rest := []) ⟨hx, hb, hml, hown, hts⟩ (ct_X3_thrown l g Am mo ma (m_look X (xs (5 * t + 1)) false).2) zn_X3_thrown (lw_V q1122 q1123 q1124 q48 q1125) rfl (Nat.le_of_ble_eq_true rfl) (Nat.le_of_ble_eq_true rfl) hK hAm hS hM (zx_recv (hK.narrow hAm) hM) rfl hl.1 (Nat.le_of_ble_eq_true rfl) dL_law_938 ⟨by show _ + 0 ≤ 1200384; omega, by show _ + 0 ≤ 5488298; omega⟩ (fun r2 u H1 locs1 hp hM1 hz hkk hS1 => ?_)
    subst hp
    have hw := zLw.mod (B := fun q : Nat => s.heap.size ≤ q) hT hoa hY hA0 hM hAs hAm hdj hM1 hz hkk
    obtain ⟨T, As, Am, hT, hoa, hY, hA0, hM, hAs, hAm, hdj⟩ := hw
    have hS := hS1
    have hw : zLw g (fun q : Nat => s.heap.size ≤ q) (S.A 0) mo oa ma _ _ _ _ _ := ⟨T, As, Am, hT, hoa, hY, hA0, hM, hAs, hAm, hdj⟩
    refine lv_iload hx hb dL_law_941 (lv_at hl 1 rfl) ?_
    refine lv_icmp_eq (tgt := 948) hx hb dL_law_943 (by decide) (fun _ => ?_) (fun z => absurd hr.symm z)
    refine lv_iload hx hb dL_law_948 (lv_at hl 1 rfl) ?_
    refine lv_if_ne (tgt := 965) hx hb dL_law_950 (by decide) (fun _ => ?_) (fun c0 => ?_)
    · refine lv_goto (tgt := 2013) hx hb dL_law_965 (by decide) ?_
      refine W.widen (k := cells + 100) (n := slots + 2000) (by omega) (by omega) ?_
      exact K _ _ _ _ _ _ hI1 hw hS (lv_sub hl [2, 3, 4, 5, 6] rfl)
    · refine lv_aload_n hx hb dL_law_953 rfl (lv_at hl 6 rfl) ?_
      refine lv_iconst (v := 0) hx hb dL_law_954 (by decide) ?_
      refine zt_lld (k := 0) hx hb hK.1 hT (va_up_self _ _ _) (by decide) (by decide) dL_law_955 ?_
      refine lv_iload hx hb dL_law_956 (lv_at hl 0 rfl) ?_
      refine lv_i2l hx hb dL_law_958 rfl ?_
      refine W.lcmp hx hb dL_law_959 ?_
      refine zm_topi (y := 0) (zcmp0 (hv1 c0)) ?_
      refine lv_if_eq (tgt := 965) hx hb dL_law_960 (by decide) (fun _ => ?_) (fun z => absurd rfl z)
      refine lv_goto (tgt := 2013) hx hb dL_law_965 (by decide) ?_
      refine W.widen (k := cells + 100) (n := slots + 2000) (by omega) (by omega) ?_
      exact K _ _ _ _ _ _ hI1 hw hS (lv_sub hl [2, 3, 4, 5, 6] rfl)
  · refine lv_aload_n hx hb dL_law_884 rfl (lv_at hl 2 rfl) ?_
    refine lv_aload_n hx hb dL_law_885 rfl (lv_at hl 1 rfl) ?_
    refine lv_iload hx hb dL_law_886 (lv_at hl 0 rfl) ?_
    refine lv_iconst (v := 1) hx hb dL_law_888 (by decide) ?_
    refine lv_iadd hx hb dL_law_889 ?_
    refine zm_topi (y := nI (5 * t + 1)) (nI_add (5 * t) 1) ?_
    refine va_sld hx hb hX hbl hbA hS (vp_in_nI (n := 5 * t + 1) (N := L) (by omega) (by omega)) dL_law_890 ?_
    refine zm_topi (y := xs (5 * t + 1)) (congrArg xs (nI_clamp (n := 5 * t + 1) (by omega))) ?_
    refine lv_aload_n hx hb dL_law_891 rfl (lv_at hl 1 rfl) ?_
    refine lv_iload hx hb dL_law_892 (lv_at hl 0 rfl) ?_
    refine lv_iconst (v := 2) hx hb dL_law_894 (by decide) ?_
    refine lv_iadd hx hb dL_law_895 ?_
    refine zm_topi (y := nI (5 * t + 2)) (nI_add (5 * t) 2) ?_
    refine va_sld hx hb hX hbl hbA hS (vp_in_nI (n := 5 * t + 2) (N := L) (by omega) (by omega)) dL_law_896 ?_
    refine zm_topi (y := xs (5 * t + 2)) (congrArg xs (nI_clamp (n := 5 * t + 2) (by omega))) ?_
    refine lv_if_eq (tgt := 904) hx hb dL_law_897 (by decide) (fun z => absurd z cb) (fun _ => ?_)
    refine lv_iconst (v := 1) hx hb dL_law_900 (by decide) ?_
    refine zm_topi (y := zb true) rfl ?_
    refine lv_goto (tgt := 905) hx hb dL_law_901 (by decide) ?_
    refine lv_aload_n hx hb dL_law_905 rfl (lv_at hl 4 rfl) ?_
    refine zl_sys (As := [.ref (S.A 0), .int (xs (5 * t + 1)), .int (zb true), .ref oa]) (rest := []) ⟨hx, hb, hml, hown, hts⟩ (ct_X0_look l hl0 g As S X T hY oa f hoa hI.I hI.z12 hI.z10 (xs (5 * t + 1)) true) zn_X0_look (lw_SW q824 q825 q38 q826) (Nat.le_of_ble_eq_true rfl) (Nat.le_of_ble_eq_true rfl) hK hAs hS hT rfl hl.1 (Nat.le_of_ble_eq_true rfl) dL_law_906 ⟨by show _ + 2 ≤ 1200384; omega, by show _ + 12 ≤ 5488298; omega⟩ (fun r u H1 locs1 hp hT1 hz hkk hS1 => ?_)
    obtain ⟨hr, hn1, hp⟩ := hp
    obtain ⟨hI1, hA1, hY1, hv1⟩ := zStep.out (zp_look hI (xs (5 * t + 1)) true) hI hr hp
    have hw := zLw.sys (B := fun q : Nat => s.heap.size ≤ q) hT hM hAs hAm hdj hT1 hn1 hY1 hA1 hz hkk
    obtain ⟨T, As, Am, hT, hoa, hY, hA0, hM, hAs, hAm, hdj⟩ := hw
    have hS := hS1
    refine lv_istore (lv' := [(5, .int r), (4, .int (nI (5 * t))), (0, .ref b), (1, .ref (S.A 0)), (2, .ref mo), (3, .ref oa)]) hx hb dL_law_909 hl (by decide) rfl (fun ls hl => ?_)
    refine lv_aload_n hx hb dL_law_911 rfl (lv_at hl 4 rfl) ?_
    refine lv_aload_n hx hb dL_law_912 rfl (lv_at hl 2 rfl) ?_
    refine lv_iload hx hb dL_law_913 (lv_at hl 1 rfl) ?_
    refine lv_iconst (v := 1) hx hb dL_law_915 (by decide) ?_
    refine lv_iadd hx hb dL_law_916 ?_
    refine zm_topi (y := nI (5 * t + 1)) (nI_add (5 * t) 1) ?_
    refine va_sld hx hb hX hbl hbA hS (vp_in_nI (n := 5 * t + 1) (N := L) (by omega) (by omega)) dL_law_917 ?_
    refine zm_topi (y := xs (5 * t + 1)) (congrArg xs (nI_clamp (n := 5 * t + 1) (by omega))) ?_
    refine lv_aload_n hx hb dL_law_918 rfl (lv_at hl 2 rfl) ?_
    refine lv_iload hx hb dL_law_919 (lv_at hl 1 rfl) ?_
    refine lv_iconst (v := 2) hx hb dL_law_921 (by decide) ?_
    refine lv_iadd hx hb dL_law_922 ?_
    refine zm_topi (y := nI (5 * t + 2)) (nI_add (5 * t) 2) ?_
    refine va_sld hx hb hX hbl hbA hS (vp_in_nI (n := 5 * t + 2) (N := L) (by omega) (by omega)) dL_law_923 ?_
    refine zm_topi (y := xs (5 * t + 2)) (congrArg xs (nI_clamp (n := 5 * t + 2) (by omega))) ?_
    refine lv_if_eq (tgt := 931) hx hb dL_law_924 (by decide) (fun z => absurd z cb) (fun _ => ?_)
    refine lv_iconst (v := 1) hx hb dL_law_927 (by decide) ?_
    refine zm_topi (y := zb true) rfl ?_
    refine lv_goto (tgt := 932) hx hb dL_law_928 (by decide) ?_
    refine zl_mod (As := [.int (xs (5 * t + 1)), .int (zb true)]) (rest := []) ⟨hx, hb, hml, hown, hts⟩ (ct_X3_look l g Am mo ma X (xs (5 * t + 1)) true hI.I hI.z12 hI.z10) zn_X3_look (lw_V q1228 q1229 q1230 q48 q1231) rfl (Nat.le_of_ble_eq_true rfl) (Nat.le_of_ble_eq_true rfl) hK hAm hS hM (zx_recv (hK.narrow hAm) hM) rfl hl.1 (Nat.le_of_ble_eq_true rfl) dL_law_932 ⟨by show _ + 0 ≤ 1200384; omega, by show _ + 0 ≤ 5488298; omega⟩ (fun r2 u H1 locs1 hp hM1 hz hkk hS1 => ?_)
    subst hp
    have hw := zLw.mod (B := fun q : Nat => s.heap.size ≤ q) hT hoa hY hA0 hM hAs hAm hdj hM1 hz hkk
    obtain ⟨T, As, Am, hT, hoa, hY, hA0, hM, hAs, hAm, hdj⟩ := hw
    have hS := hS1
    refine lv_istore (lv' := [(6, .int ((m_look X (xs (5 * t + 1)) true).1)), (5, .int r), (4, .int (nI (5 * t))), (0, .ref b), (1, .ref (S.A 0)), (2, .ref mo), (3, .ref oa)]) hx hb dL_law_935 hl (by decide) rfl (fun ls hl => ?_)
    refine lv_aload_n hx hb dL_law_937 rfl (lv_at hl 5 rfl) ?_
    refine zl_mod (As := []) (rest := []) ⟨hx, hb, hml, hown, hts⟩ (ct_X3_thrown l g Am mo ma (m_look X (xs (5 * t + 1)) true).2) zn_X3_thrown (lw_V q1122 q1123 q1124 q48 q1125) rfl (Nat.le_of_ble_eq_true rfl) (Nat.le_of_ble_eq_true rfl) hK hAm hS hM (zx_recv (hK.narrow hAm) hM) rfl hl.1 (Nat.le_of_ble_eq_true rfl) dL_law_938 ⟨by show _ + 0 ≤ 1200384; omega, by show _ + 0 ≤ 5488298; omega⟩ (fun r2 u H1 locs1 hp hM1 hz hkk hS1 => ?_)
    subst hp
    have hw := zLw.mod (B := fun q : Nat => s.heap.size ≤ q) hT hoa hY hA0 hM hAs hAm hdj hM1 hz hkk
    obtain ⟨T, As, Am, hT, hoa, hY, hA0, hM, hAs, hAm, hdj⟩ := hw
    have hS := hS1
    have hw : zLw g (fun q : Nat => s.heap.size ≤ q) (S.A 0) mo oa ma _ _ _ _ _ := ⟨T, As, Am, hT, hoa, hY, hA0, hM, hAs, hAm, hdj⟩
    refine lv_iload hx hb dL_law_941 (lv_at hl 1 rfl) ?_
    refine lv_icmp_eq (tgt := 948) hx hb dL_law_943 (by decide) (fun _ => ?_) (fun z => absurd hr.symm z)
    refine lv_iload hx hb dL_law_948 (lv_at hl 1 rfl) ?_
    refine lv_if_ne (tgt := 965) hx hb dL_law_950 (by decide) (fun _ => ?_) (fun c0 => ?_)
    · refine lv_goto (tgt := 2013) hx hb dL_law_965 (by decide) ?_
      refine W.widen (k := cells + 100) (n := slots + 2000) (by omega) (by omega) ?_
      exact K _ _ _ _ _ _ hI1 hw hS (lv_sub hl [2, 3, 4, 5, 6] rfl)
    · refine lv_aload_n hx hb dL_law_953 rfl (lv_at hl 6 rfl) ?_
      refine lv_iconst (v := 0) hx hb dL_law_954 (by decide) ?_
      refine zt_lld (k := 0) hx hb hK.1 hT (va_up_self _ _ _) (by decide) (by decide) dL_law_955 ?_
      refine lv_iload hx hb dL_law_956 (lv_at hl 0 rfl) ?_
      refine lv_i2l hx hb dL_law_958 rfl ?_
      refine W.lcmp hx hb dL_law_959 ?_
      refine zm_topi (y := 0) (zcmp0 (hv1 c0)) ?_
      refine lv_if_eq (tgt := 965) hx hb dL_law_960 (by decide) (fun _ => ?_) (fun z => absurd rfl z)
      refine lv_goto (tgt := 2013) hx hb dL_law_965 (by decide) ?_
      refine W.widen (k := cells + 100) (n := slots + 2000) (by omega) (by omega) ?_
      exact K _ _ _ _ _ _ hI1 hw hS (lv_sub hl [2, 3, 4, 5, 6] rfl)
set_option maxHeartbeats 4000000 in
theorem cs_12 {p : Program} {l : Launch} {e : Env} {s : State} {m : MethodId} {below : List Frame} {meth : Method} {c : Code} {Q : State → Prop} {b L : Nat} {xs : Nat → Int32} {g : zG} {xo mo oa : Nat} {ma : Nat → Nat} (C0 : zFx p l s m c b L xs g) {t : Nat} (ht : 5 * t + 5 ≤ L) {S : zS} {X : zX} (hI : zIv t S X) {f : Nat → Int64} {H : Heap} {locs : List Loc} {cells slots : Nat} (hcells : cells + 100 ≤ 1200384) (hslots : slots + 2000 ≤ 5488298) (hw : zLw g (fun q : Nat => s.heap.size ≤ q) xo mo oa ma S X X f H) (hS : va_S (fun q : Nat => s.heap.size ≤ q) s.heap H locs) {ls : Array Slot} (hl : lv_has ls 7 [(4, .int (nI (5 * t))), (0, .ref b), (1, .ref xo), (2, .ref mo), (3, .ref oa)]) (K : zKt p l e s m below meth c b g xo mo oa ma t (cells + 100) (slots + 2000) Q) : W p l e room_1 s m #[Value.ref b] below meth c H locs cells slots Q (F0 m 968 ls []) := by
  obtain ⟨hL, hl0, hx, hb, hml, hown, hts, hX, hbl, hK⟩ := C0
  have hbA : ¬ (fun q : Nat => s.heap.size ≤ q) b := Nat.not_le.mpr hbl
  obtain ⟨T, As, Am, hT, hoa, hY, hA0, hM, hAs, hAm, hdj⟩ := hw
  subst hA0
  have ht99 : t ≤ 99 := by omega
  refine lv_aload_n hx hb dL_law_968 rfl (lv_at hl 2 rfl) ?_
  refine lv_aload_n hx hb dL_law_969 rfl (lv_at hl 1 rfl) ?_
  refine lv_iload hx hb dL_law_970 (lv_at hl 0 rfl) ?_
  refine lv_iconst (v := 1) hx hb dL_law_972 (by decide) ?_
  refine lv_iadd hx hb dL_law_973 ?_
  refine zm_topi (y := nI (5 * t + 1)) (nI_add (5 * t) 1) ?_
  refine va_sld hx hb hX hbl hbA hS (vp_in_nI (n := 5 * t + 1) (N := L) (by omega) (by omega)) dL_law_974 ?_
  refine zm_topi (y := xs (5 * t + 1)) (congrArg xs (nI_clamp (n := 5 * t + 1) (by omega))) ?_
  refine lv_aload_n hx hb dL_law_975 rfl (lv_at hl 4 rfl) ?_
  refine zl_sys (As := [.ref (S.A 0), .int (xs (5 * t + 1)), .ref oa]) (rest := []) ⟨hx, hb, hml, hown, hts⟩ (ct_X0_clear l hl0 g As S X T hY oa f hoa hI.I hI.z12 (xs (5 * t + 1))) zn_X0_clear (lw_SW q832 q833 q38 q834) (Nat.le_of_ble_eq_true rfl) (Nat.le_of_ble_eq_true rfl) hK hAs hS hT rfl hl.1 (Nat.le_of_ble_eq_true rfl) dL_law_976 ⟨by show _ + 2 ≤ 1200384; omega, by show _ + 12 ≤ 5488298; omega⟩ (fun r u H1 locs1 hp hT1 hz hkk hS1 => ?_)
  obtain ⟨hr, hn1, hp⟩ := hp
  obtain ⟨hI1, hA1, hY1, hv1⟩ := zStep.out (zp_clear hI (xs (5 * t + 1))) hI hr hp
  have hw := zLw.sys (B := fun q : Nat => s.heap.size ≤ q) hT hM hAs hAm hdj hT1 hn1 hY1 hA1 hz hkk
  obtain ⟨T, As, Am, hT, hoa, hY, hA0, hM, hAs, hAm, hdj⟩ := hw
  have hS := hS1
  refine lv_istore (lv' := [(5, .int r), (4, .int (nI (5 * t))), (0, .ref b), (1, .ref (S.A 0)), (2, .ref mo), (3, .ref oa)]) hx hb dL_law_979 hl (by decide) rfl (fun ls hl => ?_)
  refine lv_aload_n hx hb dL_law_981 rfl (lv_at hl 4 rfl) ?_
  refine lv_aload_n hx hb dL_law_982 rfl (lv_at hl 2 rfl) ?_
  refine lv_iload hx hb dL_law_983 (lv_at hl 1 rfl) ?_
  refine lv_iconst (v := 1) hx hb dL_law_985 (by decide) ?_
  refine lv_iadd hx hb dL_law_986 ?_
  refine zm_topi (y := nI (5 * t + 1)) (nI_add (5 * t) 1) ?_
  refine va_sld hx hb hX hbl hbA hS (vp_in_nI (n := 5 * t + 1) (N := L) (by omega) (by omega)) dL_law_987 ?_
  refine zm_topi (y := xs (5 * t + 1)) (congrArg xs (nI_clamp (n := 5 * t + 1) (by omega))) ?_
  refine zl_mod (As := [.int (xs (5 * t + 1))]) (rest := []) ⟨hx, hb, hml, hown, hts⟩ (ct_X3_clear l g Am mo ma X (xs (5 * t + 1)) hI.I hI.z12) zn_X3_clear (lw_V q1236 q1237 q1238 q48 q1239) rfl (Nat.le_of_ble_eq_true rfl) (Nat.le_of_ble_eq_true rfl) hK hAm hS hM (zx_recv (hK.narrow hAm) hM) rfl hl.1 (Nat.le_of_ble_eq_true rfl) dL_law_988 ⟨by show _ + 0 ≤ 1200384; omega, by show _ + 0 ≤ 5488298; omega⟩ (fun r2 u H1 locs1 hp hM1 hz hkk hS1 => ?_)
  subst hp
  have hw := zLw.mod (B := fun q : Nat => s.heap.size ≤ q) hT hoa hY hA0 hM hAs hAm hdj hM1 hz hkk
  obtain ⟨T, As, Am, hT, hoa, hY, hA0, hM, hAs, hAm, hdj⟩ := hw
  have hS := hS1
  refine lv_istore (lv' := [(6, .int ((m_clear X (xs (5 * t + 1))).1)), (5, .int r), (4, .int (nI (5 * t))), (0, .ref b), (1, .ref (S.A 0)), (2, .ref mo), (3, .ref oa)]) hx hb dL_law_991 hl (by decide) rfl (fun ls hl => ?_)
  refine lv_aload_n hx hb dL_law_993 rfl (lv_at hl 5 rfl) ?_
  refine zl_mod (As := []) (rest := []) ⟨hx, hb, hml, hown, hts⟩ (ct_X3_thrown l g Am mo ma (m_clear X (xs (5 * t + 1))).2) zn_X3_thrown (lw_V q1122 q1123 q1124 q48 q1125) rfl (Nat.le_of_ble_eq_true rfl) (Nat.le_of_ble_eq_true rfl) hK hAm hS hM (zx_recv (hK.narrow hAm) hM) rfl hl.1 (Nat.le_of_ble_eq_true rfl) dL_law_994 ⟨by show _ + 0 ≤ 1200384; omega, by show _ + 0 ≤ 5488298; omega⟩ (fun r2 u H1 locs1 hp hM1 hz hkk hS1 => ?_)
  subst hp
  have hw := zLw.mod (B := fun q : Nat => s.heap.size ≤ q) hT hoa hY hA0 hM hAs hAm hdj hM1 hz hkk
  obtain ⟨T, As, Am, hT, hoa, hY, hA0, hM, hAs, hAm, hdj⟩ := hw
  have hS := hS1
  have hw : zLw g (fun q : Nat => s.heap.size ≤ q) (S.A 0) mo oa ma _ _ _ _ _ := ⟨T, As, Am, hT, hoa, hY, hA0, hM, hAs, hAm, hdj⟩
  refine lv_iload hx hb dL_law_997 (lv_at hl 1 rfl) ?_
  refine lv_icmp_eq (tgt := 1004) hx hb dL_law_999 (by decide) (fun _ => ?_) (fun z => absurd hr.symm z)
  refine lv_iload hx hb dL_law_1004 (lv_at hl 1 rfl) ?_
  refine lv_if_ne (tgt := 1021) hx hb dL_law_1006 (by decide) (fun _ => ?_) (fun c0 => ?_)
  · refine lv_goto (tgt := 2013) hx hb dL_law_1021 (by decide) ?_
    refine W.widen (k := cells + 100) (n := slots + 2000) (by omega) (by omega) ?_
    exact K _ _ _ _ _ _ hI1 hw hS (lv_sub hl [2, 3, 4, 5, 6] rfl)
  · refine lv_aload_n hx hb dL_law_1009 rfl (lv_at hl 6 rfl) ?_
    refine lv_iconst (v := 0) hx hb dL_law_1010 (by decide) ?_
    refine zt_lld (k := 0) hx hb hK.1 hT (va_up_self _ _ _) (by decide) (by decide) dL_law_1011 ?_
    refine lv_iload hx hb dL_law_1012 (lv_at hl 0 rfl) ?_
    refine lv_i2l hx hb dL_law_1014 rfl ?_
    refine W.lcmp hx hb dL_law_1015 ?_
    refine zm_topi (y := 0) (zcmp0 (hv1 c0)) ?_
    refine lv_if_eq (tgt := 1021) hx hb dL_law_1016 (by decide) (fun _ => ?_) (fun z => absurd rfl z)
    refine lv_goto (tgt := 2013) hx hb dL_law_1021 (by decide) ?_
    refine W.widen (k := cells + 100) (n := slots + 2000) (by omega) (by omega) ?_
    exact K _ _ _ _ _ _ hI1 hw hS (lv_sub hl [2, 3, 4, 5, 6] rfl)
set_option maxHeartbeats 4000000 in
theorem cs_13 {p : Program} {l : Launch} {e : Env} {s : State} {m : MethodId} {below : List Frame} {meth : Method} {c : Code} {Q : State → Prop} {b L : Nat} {xs : Nat → Int32} {g : zG} {xo mo oa : Nat} {ma : Nat → Nat} (C0 : zFx p l s m c b L xs g) {t : Nat} (ht : 5 * t + 5 ≤ L) {S : zS} {X : zX} (hI : zIv t S X) {f : Nat → Int64} {H : Heap} {locs : List Loc} {cells slots : Nat} (hcells : cells + 100 ≤ 1200384) (hslots : slots + 2000 ≤ 5488298) (hw : zLw g (fun q : Nat => s.heap.size ≤ q) xo mo oa ma S X X f H) (hS : va_S (fun q : Nat => s.heap.size ≤ q) s.heap H locs) {ls : Array Slot} (hl : lv_has ls 7 [(4, .int (nI (5 * t))), (0, .ref b), (1, .ref xo), (2, .ref mo), (3, .ref oa)]) (K : zKt p l e s m below meth c b g xo mo oa ma t (cells + 100) (slots + 2000) Q) : W p l e room_1 s m #[Value.ref b] below meth c H locs cells slots Q (F0 m 1024 ls []) := by
  obtain ⟨hL, hl0, hx, hb, hml, hown, hts, hX, hbl, hK⟩ := C0
  have hbA : ¬ (fun q : Nat => s.heap.size ≤ q) b := Nat.not_le.mpr hbl
  obtain ⟨T, As, Am, hT, hoa, hY, hA0, hM, hAs, hAm, hdj⟩ := hw
  subst hA0
  have ht99 : t ≤ 99 := by omega
  refine lv_aload_n hx hb dL_law_1024 rfl (lv_at hl 2 rfl) ?_
  refine lv_aload_n hx hb dL_law_1025 rfl (lv_at hl 1 rfl) ?_
  refine lv_iload hx hb dL_law_1026 (lv_at hl 0 rfl) ?_
  refine lv_iconst (v := 1) hx hb dL_law_1028 (by decide) ?_
  refine lv_iadd hx hb dL_law_1029 ?_
  refine zm_topi (y := nI (5 * t + 1)) (nI_add (5 * t) 1) ?_
  refine va_sld hx hb hX hbl hbA hS (vp_in_nI (n := 5 * t + 1) (N := L) (by omega) (by omega)) dL_law_1030 ?_
  refine zm_topi (y := xs (5 * t + 1)) (congrArg xs (nI_clamp (n := 5 * t + 1) (by omega))) ?_
  refine lv_aload_n hx hb dL_law_1031 rfl (lv_at hl 4 rfl) ?_
  refine zl_sys (As := [.ref (S.A 0), .int (xs (5 * t + 1)), .ref oa]) (rest := []) ⟨hx, hb, hml, hown, hts⟩ (ct_X0_recall l hl0 g As S X T hY oa f hoa hI.I (xs (5 * t + 1))) zn_X0_recall (lw_SW q839 q840 q38 q841) (Nat.le_of_ble_eq_true rfl) (Nat.le_of_ble_eq_true rfl) hK hAs hS hT rfl hl.1 (Nat.le_of_ble_eq_true rfl) dL_law_1032 ⟨by show _ + 2 ≤ 1200384; omega, by show _ + 10 ≤ 5488298; omega⟩ (fun r u H1 locs1 hp hT1 hz hkk hS1 => ?_)
  obtain ⟨hr, hn1, hp⟩ := hp
  obtain ⟨hI1, hA1, hY1, hv1⟩ := zStep.out (zp_recall hI (xs (5 * t + 1))) hI hr hp
  have hw := zLw.sys (B := fun q : Nat => s.heap.size ≤ q) hT hM hAs hAm hdj hT1 hn1 hY1 hA1 hz hkk
  obtain ⟨T, As, Am, hT, hoa, hY, hA0, hM, hAs, hAm, hdj⟩ := hw
  have hS := hS1
  refine lv_istore (lv' := [(5, .int r), (4, .int (nI (5 * t))), (0, .ref b), (1, .ref (S.A 0)), (2, .ref mo), (3, .ref oa)]) hx hb dL_law_1035 hl (by decide) rfl (fun ls hl => ?_)
  refine lv_aload_n hx hb dL_law_1037 rfl (lv_at hl 4 rfl) ?_
  refine lv_aload_n hx hb dL_law_1038 rfl (lv_at hl 2 rfl) ?_
  refine lv_iload hx hb dL_law_1039 (lv_at hl 1 rfl) ?_
  refine lv_iconst (v := 1) hx hb dL_law_1041 (by decide) ?_
  refine lv_iadd hx hb dL_law_1042 ?_
  refine zm_topi (y := nI (5 * t + 1)) (nI_add (5 * t) 1) ?_
  refine va_sld hx hb hX hbl hbA hS (vp_in_nI (n := 5 * t + 1) (N := L) (by omega) (by omega)) dL_law_1043 ?_
  refine zm_topi (y := xs (5 * t + 1)) (congrArg xs (nI_clamp (n := 5 * t + 1) (by omega))) ?_
  refine zl_mod (As := [.int (xs (5 * t + 1))]) (rest := []) ⟨hx, hb, hml, hown, hts⟩ (ct_X3_recall l g Am mo ma X (xs (5 * t + 1)) hI.I) zn_X3_recall (lw_V q1240 q1241 q1242 q48 q1243) rfl (Nat.le_of_ble_eq_true rfl) (Nat.le_of_ble_eq_true rfl) hK hAm hS hM (zx_recv (hK.narrow hAm) hM) rfl hl.1 (Nat.le_of_ble_eq_true rfl) dL_law_1044 ⟨by show _ + 0 ≤ 1200384; omega, by show _ + 0 ≤ 5488298; omega⟩ (fun r2 u H1 locs1 hp hM1 hz hkk hS1 => ?_)
  subst hp
  have hw := zLw.mod (B := fun q : Nat => s.heap.size ≤ q) hT hoa hY hA0 hM hAs hAm hdj hM1 hz hkk
  obtain ⟨T, As, Am, hT, hoa, hY, hA0, hM, hAs, hAm, hdj⟩ := hw
  have hS := hS1
  refine lv_istore (lv' := [(6, .int ((m_recall X (xs (5 * t + 1))).1)), (5, .int r), (4, .int (nI (5 * t))), (0, .ref b), (1, .ref (S.A 0)), (2, .ref mo), (3, .ref oa)]) hx hb dL_law_1047 hl (by decide) rfl (fun ls hl => ?_)
  refine lv_aload_n hx hb dL_law_1049 rfl (lv_at hl 5 rfl) ?_
  refine zl_mod (As := []) (rest := []) ⟨hx, hb, hml, hown, hts⟩ (ct_X3_thrown l g Am mo ma (m_recall X (xs (5 * t + 1))).2) zn_X3_thrown (lw_V q1122 q1123 q1124 q48 q1125) rfl (Nat.le_of_ble_eq_true rfl) (Nat.le_of_ble_eq_true rfl) hK hAm hS hM (zx_recv (hK.narrow hAm) hM) rfl hl.1 (Nat.le_of_ble_eq_true rfl) dL_law_1050 ⟨by show _ + 0 ≤ 1200384; omega, by show _ + 0 ≤ 5488298; omega⟩ (fun r2 u H1 locs1 hp hM1 hz hkk hS1 => ?_)
  subst hp
  have hw := zLw.mod (B := fun q : Nat => s.heap.size ≤ q) hT hoa hY hA0 hM hAs hAm hdj hM1 hz hkk
  obtain ⟨T, As, Am, hT, hoa, hY, hA0, hM, hAs, hAm, hdj⟩ := hw
  have hS := hS1
  have hw : zLw g (fun q : Nat => s.heap.size ≤ q) (S.A 0) mo oa ma _ _ _ _ _ := ⟨T, As, Am, hT, hoa, hY, hA0, hM, hAs, hAm, hdj⟩
  refine lv_iload hx hb dL_law_1053 (lv_at hl 1 rfl) ?_
  refine lv_icmp_eq (tgt := 1060) hx hb dL_law_1055 (by decide) (fun _ => ?_) (fun z => absurd hr.symm z)
  refine lv_iload hx hb dL_law_1060 (lv_at hl 1 rfl) ?_
  refine lv_if_ne (tgt := 1077) hx hb dL_law_1062 (by decide) (fun _ => ?_) (fun c0 => ?_)
  · refine lv_goto (tgt := 2013) hx hb dL_law_1077 (by decide) ?_
    refine W.widen (k := cells + 100) (n := slots + 2000) (by omega) (by omega) ?_
    exact K _ _ _ _ _ _ hI1 hw hS (lv_sub hl [2, 3, 4, 5, 6] rfl)
  · refine lv_aload_n hx hb dL_law_1065 rfl (lv_at hl 6 rfl) ?_
    refine lv_iconst (v := 0) hx hb dL_law_1066 (by decide) ?_
    refine zt_lld (k := 0) hx hb hK.1 hT (va_up_self _ _ _) (by decide) (by decide) dL_law_1067 ?_
    refine lv_iload hx hb dL_law_1068 (lv_at hl 0 rfl) ?_
    refine lv_i2l hx hb dL_law_1070 rfl ?_
    refine W.lcmp hx hb dL_law_1071 ?_
    refine zm_topi (y := 0) (zcmp0 (hv1 c0)) ?_
    refine lv_if_eq (tgt := 1077) hx hb dL_law_1072 (by decide) (fun _ => ?_) (fun z => absurd rfl z)
    refine lv_goto (tgt := 2013) hx hb dL_law_1077 (by decide) ?_
    refine W.widen (k := cells + 100) (n := slots + 2000) (by omega) (by omega) ?_
    exact K _ _ _ _ _ _ hI1 hw hS (lv_sub hl [2, 3, 4, 5, 6] rfl)
set_option maxHeartbeats 4000000 in
theorem cs_14 {p : Program} {l : Launch} {e : Env} {s : State} {m : MethodId} {below : List Frame} {meth : Method} {c : Code} {Q : State → Prop} {b L : Nat} {xs : Nat → Int32} {g : zG} {xo mo oa : Nat} {ma : Nat → Nat} (C0 : zFx p l s m c b L xs g) {t : Nat} (ht : 5 * t + 5 ≤ L) {S : zS} {X : zX} (hI : zIv t S X) {f : Nat → Int64} {H : Heap} {locs : List Loc} {cells slots : Nat} (hcells : cells + 100 ≤ 1200384) (hslots : slots + 2000 ≤ 5488298) (hw : zLw g (fun q : Nat => s.heap.size ≤ q) xo mo oa ma S X X f H) (hS : va_S (fun q : Nat => s.heap.size ≤ q) s.heap H locs) {ls : Array Slot} (hl : lv_has ls 7 [(4, .int (nI (5 * t))), (0, .ref b), (1, .ref xo), (2, .ref mo), (3, .ref oa)]) (K : zKt p l e s m below meth c b g xo mo oa ma t (cells + 100) (slots + 2000) Q) : W p l e room_1 s m #[Value.ref b] below meth c H locs cells slots Q (F0 m 1080 ls []) := by
  obtain ⟨hL, hl0, hx, hb, hml, hown, hts, hX, hbl, hK⟩ := C0
  have hbA : ¬ (fun q : Nat => s.heap.size ≤ q) b := Nat.not_le.mpr hbl
  obtain ⟨T, As, Am, hT, hoa, hY, hA0, hM, hAs, hAm, hdj⟩ := hw
  subst hA0
  have ht99 : t ≤ 99 := by omega
  refine lv_aload_n hx hb dL_law_1080 rfl (lv_at hl 2 rfl) ?_
  refine lv_aload_n hx hb dL_law_1081 rfl (lv_at hl 1 rfl) ?_
  refine lv_iload hx hb dL_law_1082 (lv_at hl 0 rfl) ?_
  refine lv_iconst (v := 1) hx hb dL_law_1084 (by decide) ?_
  refine lv_iadd hx hb dL_law_1085 ?_
  refine zm_topi (y := nI (5 * t + 1)) (nI_add (5 * t) 1) ?_
  refine va_sld hx hb hX hbl hbA hS (vp_in_nI (n := 5 * t + 1) (N := L) (by omega) (by omega)) dL_law_1086 ?_
  refine zm_topi (y := xs (5 * t + 1)) (congrArg xs (nI_clamp (n := 5 * t + 1) (by omega))) ?_
  refine lv_aload_n hx hb dL_law_1087 rfl (lv_at hl 4 rfl) ?_
  refine zl_sys (As := [.ref (S.A 0), .int (xs (5 * t + 1)), .ref oa]) (rest := []) ⟨hx, hb, hml, hown, hts⟩ (ct_X0_release l hl0 g As S X T hY oa f hoa hI.I hI.1.ko hI.1.kk hI.z9 hI.z10 hI.BB (xs (5 * t + 1))) zn_X0_release (lw_SW q851 q852 q38 q853) (Nat.le_of_ble_eq_true rfl) (Nat.le_of_ble_eq_true rfl) hK hAs hS hT rfl hl.1 (Nat.le_of_ble_eq_true rfl) dL_law_1088 ⟨by show _ + 9 ≤ 1200384; omega, by show _ + 33 ≤ 5488298; omega⟩ (fun r u H1 locs1 hp hT1 hz hkk hS1 => ?_)
  obtain ⟨hr, hn1, hp⟩ := hp
  obtain ⟨hI1, hA1, hY1, hv1⟩ := zStep.out (zp_release hI (xs (5 * t + 1))) hI hr hp
  have hw := zLw.sys (B := fun q : Nat => s.heap.size ≤ q) hT hM hAs hAm hdj hT1 hn1 hY1 hA1 hz hkk
  obtain ⟨T, As, Am, hT, hoa, hY, hA0, hM, hAs, hAm, hdj⟩ := hw
  have hS := hS1
  refine lv_istore (lv' := [(5, .int r), (4, .int (nI (5 * t))), (0, .ref b), (1, .ref (S.A 0)), (2, .ref mo), (3, .ref oa)]) hx hb dL_law_1091 hl (by decide) rfl (fun ls hl => ?_)
  refine lv_aload_n hx hb dL_law_1093 rfl (lv_at hl 4 rfl) ?_
  refine lv_aload_n hx hb dL_law_1094 rfl (lv_at hl 2 rfl) ?_
  refine lv_iload hx hb dL_law_1095 (lv_at hl 1 rfl) ?_
  refine lv_iconst (v := 1) hx hb dL_law_1097 (by decide) ?_
  refine lv_iadd hx hb dL_law_1098 ?_
  refine zm_topi (y := nI (5 * t + 1)) (nI_add (5 * t) 1) ?_
  refine va_sld hx hb hX hbl hbA hS (vp_in_nI (n := 5 * t + 1) (N := L) (by omega) (by omega)) dL_law_1099 ?_
  refine zm_topi (y := xs (5 * t + 1)) (congrArg xs (nI_clamp (n := 5 * t + 1) (by omega))) ?_
  refine zl_mod (As := [.int (xs (5 * t + 1))]) (rest := []) ⟨hx, hb, hml, hown, hts⟩ (ct_X3_release l g Am mo ma X (xs (5 * t + 1)) hI.I hI.z9 hI.z10) zn_X3_release (lw_V q1244 q1245 q1246 q48 q1247) rfl (Nat.le_of_ble_eq_true rfl) (Nat.le_of_ble_eq_true rfl) hK hAm hS hM (zx_recv (hK.narrow hAm) hM) rfl hl.1 (Nat.le_of_ble_eq_true rfl) dL_law_1100 ⟨by show _ + 0 ≤ 1200384; omega, by show _ + 0 ≤ 5488298; omega⟩ (fun r2 u H1 locs1 hp hM1 hz hkk hS1 => ?_)
  subst hp
  have hw := zLw.mod (B := fun q : Nat => s.heap.size ≤ q) hT hoa hY hA0 hM hAs hAm hdj hM1 hz hkk
  obtain ⟨T, As, Am, hT, hoa, hY, hA0, hM, hAs, hAm, hdj⟩ := hw
  have hS := hS1
  refine lv_istore (lv' := [(6, .int ((m_release X (xs (5 * t + 1))).1)), (5, .int r), (4, .int (nI (5 * t))), (0, .ref b), (1, .ref (S.A 0)), (2, .ref mo), (3, .ref oa)]) hx hb dL_law_1103 hl (by decide) rfl (fun ls hl => ?_)
  refine lv_aload_n hx hb dL_law_1105 rfl (lv_at hl 5 rfl) ?_
  refine zl_mod (As := []) (rest := []) ⟨hx, hb, hml, hown, hts⟩ (ct_X3_thrown l g Am mo ma (m_release X (xs (5 * t + 1))).2) zn_X3_thrown (lw_V q1122 q1123 q1124 q48 q1125) rfl (Nat.le_of_ble_eq_true rfl) (Nat.le_of_ble_eq_true rfl) hK hAm hS hM (zx_recv (hK.narrow hAm) hM) rfl hl.1 (Nat.le_of_ble_eq_true rfl) dL_law_1106 ⟨by show _ + 0 ≤ 1200384; omega, by show _ + 0 ≤ 5488298; omega⟩ (fun r2 u H1 locs1 hp hM1 hz hkk hS1 => ?_)
  subst hp
  have hw := zLw.mod (B := fun q : Nat => s.heap.size ≤ q) hT hoa hY hA0 hM hAs hAm hdj hM1 hz hkk
  obtain ⟨T, As, Am, hT, hoa, hY, hA0, hM, hAs, hAm, hdj⟩ := hw
  have hS := hS1
  have hw : zLw g (fun q : Nat => s.heap.size ≤ q) (S.A 0) mo oa ma _ _ _ _ _ := ⟨T, As, Am, hT, hoa, hY, hA0, hM, hAs, hAm, hdj⟩
  refine lv_iload hx hb dL_law_1109 (lv_at hl 1 rfl) ?_
  refine lv_icmp_eq (tgt := 1116) hx hb dL_law_1111 (by decide) (fun _ => ?_) (fun z => absurd hr.symm z)
  refine lv_iload hx hb dL_law_1116 (lv_at hl 1 rfl) ?_
  refine lv_if_ne (tgt := 1133) hx hb dL_law_1118 (by decide) (fun _ => ?_) (fun c0 => ?_)
  · refine lv_goto (tgt := 2013) hx hb dL_law_1133 (by decide) ?_
    refine W.widen (k := cells + 100) (n := slots + 2000) (by omega) (by omega) ?_
    exact K _ _ _ _ _ _ hI1 hw hS (lv_sub hl [2, 3, 4, 5, 6] rfl)
  · refine lv_aload_n hx hb dL_law_1121 rfl (lv_at hl 6 rfl) ?_
    refine lv_iconst (v := 0) hx hb dL_law_1122 (by decide) ?_
    refine zt_lld (k := 0) hx hb hK.1 hT (va_up_self _ _ _) (by decide) (by decide) dL_law_1123 ?_
    refine lv_iload hx hb dL_law_1124 (lv_at hl 0 rfl) ?_
    refine lv_i2l hx hb dL_law_1126 rfl ?_
    refine W.lcmp hx hb dL_law_1127 ?_
    refine zm_topi (y := 0) (zcmp0 (hv1 c0)) ?_
    refine lv_if_eq (tgt := 1133) hx hb dL_law_1128 (by decide) (fun _ => ?_) (fun z => absurd rfl z)
    refine lv_goto (tgt := 2013) hx hb dL_law_1133 (by decide) ?_
    refine W.widen (k := cells + 100) (n := slots + 2000) (by omega) (by omega) ?_
    exact K _ _ _ _ _ _ hI1 hw hS (lv_sub hl [2, 3, 4, 5, 6] rfl)
