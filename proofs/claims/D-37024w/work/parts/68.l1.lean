theorem zn_X0_part : zN yX0_part 5 := by decide +kernel
set_option maxHeartbeats 4000000 in
theorem ct_X0_part (l : Launch) (hl0 : l.stackTraces = false) (g : zG) (A : Nat → Prop) (S : zS) (X : zX) (T : zT) (hY : zSy S g X T) (oa : Nat) (f0 : Nat → Int64) (hoa : T oa = none) (hI : MH X) (hC : zKo S X) (hO : zTo S X) (hL : zLo S X) (hW : zWo S X) (hz0 : ∀ p, mN X ≤ p → X 6 p = 0 ∧ X 7 p = 0 ∧ X 8 p = 0 ∧ X 9 p = 0 ∧ X 10 p = 0 ∧ X 11 p = 0 ∧ X 12 p = 0 ∧ X 15 p = 0 ∧ X 16 p = 0 ∧ X 17 p = 0 ∧ X 18 p = 0 ∧ X 19 p = 0) (kd a d : Int32) : vx_Met l yX0_part (wsW_ yX0_part cX0_part 6 (some .int) [((0 : Nat), (12 : Nat), (15 : Nat), (13 : Nat)), ((0 : Nat), (12 : Nat), (19 : Nat), (15 : Nat))]) (zR 10 7 200) (zP [.ref (S.A 0), .int kd, .int a, .int d, .ref oa] g A (zTH g A (va_up T oa (some (.inl (zJ g 1 f0)))))) (va_Qi (fun k (u : zS × zT × (Nat → Int64)) => k = (m_part X kd a d).2 0 0 ∧ u.2.1 oa = none ∧ ((k = 0 ∧ zSy u.1 g (m_part X kd a d).2 u.2.1 ∧ u.2.2 0 = (m_part X kd a d).1.toInt64 ∧ ∃ q b1 b2 b3, u.1 = S.pA (mN X) q b1 b2 b3) ∨ (¬ k = 0 ∧ u.1 = S ∧ zSy S g X u.2.1))) (fun u t => zTH g A (va_up u.2.1 oa (some (.inl (zJ g 1 u.2.2)))) t.heap) A) (vx_X (fun (_ : Unit) => False) (fun _ _ _ => True) A) 7 200 A := by
  refine zb_wmet (by decide) (Nat.le_of_ble_eq_true rfl) ?_
  intro p e s m args below meth c ls hx hb hr hml hown hts hlocks hnm hK hT ha_ hl htab
  have hown : s.vm.findClass RX0 = some m.cls := hown
  have hS : va_S A s.heap s.heap [] := va_S.rf
  have hl : lv_has ls 6 [(0, .ref (S.A 0)), (1, .int kd), (2, .int a), (3, .int d), (4, .ref oa)] := hl
  refine lv_aload hx hb dX0_part_0 (lv_at hl 4 rfl) ?_
  refine lv_iconst (v := 0) hx hb dX0_part_2 (by decide) ?_
  refine lv_aload_n hx hb dX0_part_3 rfl (lv_at hl 0 rfl) ?_
  refine lv_iload_n hx hb dX0_part_4 rfl (lv_at hl 1 rfl) ?_
  refine lv_iload_n hx hb dX0_part_5 rfl (lv_at hl 2 rfl) ?_
  refine lv_iload_n hx hb dX0_part_6 rfl (lv_at hl 3 rfl) ?_
  have hlt0 : True := trivial
  refine vx_calli (zxr_V (As := [.int kd, .int a, .int d]) (rest := [.int 0, .ref oa]) ⟨hx, hb, hml, hown, hts⟩ (ct_X1_part l hl0 g (fun q => A q ∧ q ≠ oa) S X T hY hI hC hO hL hW hz0 kd a d) zn_X1_part (lw_V q258 q259 q260 q39 q261) rfl (by decide) (by decide) hK (fun q h => h.1) hS (hT.split hoa) (zt_recv hK.1 (hT.split hoa) hY.w rfl) rfl hl.1 (Nat.le_of_ble_eq_true rfl) dX0_part_7 ⟨by show _ + 7 ≤ 7; omega, by show _ + 200 ≤ 200; omega⟩) hS (fun _ _ h => h.1) (fun _ h => h.1) (fun _ _ h => h.1) (fun E ce q9 _ t H1 locs1 ht _ _ hB hz hkk hS1 h1 h2 h3 => ?_) (fun r u t H1 locs1 ht _ hp hB hz hkk hS1 => ?_)
  · obtain ⟨hT1, -⟩ := zTH.join hT (by rw [← ht]; exact hB.2) (hkk oa (hT.lt (va_up_self _ _ _)) (fun z => z.2 rfl))
    rcases hB.1 with ⟨rfl, hcd⟩ | ⟨rfl, hcd⟩
    · refine vx_catch (pc := 7) hown [] ⟨0, 12, 15, 13⟩ [⟨0, 12, 19, 15⟩] (by rw [htab]; rfl) (fun z hz => by cases hz) (by decide) (by decide) (hts _ q256) (va_Nw.use (A := args) rfl (hK.2.1.2.2.1 _ _ q270)) h1 h2 h3 ?_
      have hT := hT1
      have hS := hS1
      refine lv_astore (lv' := [(5, .ref q9), (0, .ref (S.A 0)), (1, .int kd), (2, .int a), (3, .int d), (4, .ref oa)]) hx hb dX0_part_15 hl (by decide) rfl (fun ls hl => ?_)
      refine lv_iconst (v := 1) hx hb dX0_part_17 (by decide) ?_
      exact vx_ret (ze_i hx hb hr hlocks hS dX0_part_18 (by show _ ≤ 7; omega) (by show _ ≤ 200; omega) (S, T, f0) ⟨hcd.symm, hoa, Or.inr ⟨by decide, rfl, hY⟩⟩ hT)
    · refine vx_catch (pc := 7) hown [⟨0, 12, 15, 13⟩] ⟨0, 12, 19, 15⟩ [] (by rw [htab]; rfl) (fun z hz => by simp only [List.mem_cons, List.not_mem_nil, or_false] at hz; rcases hz with rfl; exact Or.inr ⟨by decide, _, hts _ q256, hK.2.1.2.2.2.2.2.2.2.2.2.2.2⟩) (by decide) (by decide) (hts _ q257) (va_Nw.use (A := args) rfl (hK.2.1.2.2.1 _ _ q343)) h1 h2 h3 ?_
      have hT := hT1
      have hS := hS1
      refine lv_astore (lv' := [(5, .ref q9), (0, .ref (S.A 0)), (1, .int kd), (2, .int a), (3, .int d), (4, .ref oa)]) hx hb dX0_part_19 hl (by decide) rfl (fun ls hl => ?_)
      refine lv_iconst (v := 2) hx hb dX0_part_21 (by decide) ?_
      exact vx_ret (ze_i hx hb hr hlocks hS dX0_part_22 (by show _ ≤ 7; omega) (by show _ ≤ 200; omega) (S, T, f0) ⟨hcd.symm, hoa, Or.inr ⟨by decide, rfl, hY⟩⟩ hT)
  · obtain ⟨⟨rfl, hc0⟩, hY1, hrel⟩ := hp
    obtain ⟨hT, hn1⟩ := zTH.join hT (by rw [← ht]; exact hB) (hkk oa (hT.lt (va_up_self _ _ _)) (fun z => z.2 rfl))
    have hS := hS1
    refine lv_i2l (v := ((m_part X kd a d).1).toInt64) hx hb dX0_part_10 rfl ?_
    refine zt_lst (k := 0) hx hb hK.1 hT hS (va_up_self _ _ _) (by decide) (by decide) dX0_part_11 (fun H locs hT hS => ?_)
    rw [zup_up] at hT
    refine lv_goto (tgt := 23) hx hb dX0_part_12 (by decide) ?_
    refine lv_iconst (v := 0) hx hb dX0_part_23 (by decide) ?_
    exact vx_ret (ze_i hx hb hr hlocks hS dX0_part_24 (by show _ ≤ 7; omega) (by show _ ≤ 200; omega) (u.1, u.2, va_up f0 0 (((m_part X kd a d).1).toInt64)) ⟨hc0.symm, hn1, Or.inl ⟨rfl, hY1, va_up_self f0 0 _, hrel⟩⟩ hT)
theorem zn_X0_limits : zN yX0_limits 6 := by decide +kernel
set_option maxHeartbeats 4000000 in
theorem ct_X0_limits (l : Launch) (hl0 : l.stackTraces = false) (g : zG) (A : Nat → Prop) (S : zS) (X : zX) (T : zT) (hY : zSy S g X T) (oa : Nat) (f0 : Nat → Int64) (hoa : T oa = none) (kd a b d : Int32) : vx_Met l yX0_limits (wsW_ yX0_limits cX0_limits 7 (some .int) [((0 : Nat), (14 : Nat), (17 : Nat), (13 : Nat))]) (zR 8 1 6) (zP [.ref (S.A 0), .int kd, .int a, .int b, .int d, .ref oa] g A (zTH g A (va_up T oa (some (.inl (zJ g 1 f0)))))) (va_Qi (fun k (u : zS × zT × (Nat → Int64)) => k = (m_limits X kd a b d).2 0 0 ∧ u.2.1 oa = none ∧ ((k = 0 ∧ zSy u.1 g (m_limits X kd a b d).2 u.2.1 ∧ u.2.2 0 = (m_limits X kd a b d).1.toInt64 ∧ u.1 = S) ∨ (¬ k = 0 ∧ u.1 = S ∧ zSy S g X u.2.1))) (fun u t => zTH g A (va_up u.2.1 oa (some (.inl (zJ g 1 u.2.2)))) t.heap) A) (vx_X (fun (_ : Unit) => False) (fun _ _ _ => True) A) 1 6 A := by
  refine zb_wmet (by decide) (Nat.le_of_ble_eq_true rfl) ?_
  intro p e s m args below meth c ls hx hb hr hml hown hts hlocks hnm hK hT ha_ hl htab
  have hown : s.vm.findClass RX0 = some m.cls := hown
  have hS : va_S A s.heap s.heap [] := va_S.rf
  have hl : lv_has ls 7 [(0, .ref (S.A 0)), (1, .int kd), (2, .int a), (3, .int b), (4, .int d), (5, .ref oa)] := hl
  refine lv_aload hx hb dX0_limits_0 (lv_at hl 5 rfl) ?_
  refine lv_iconst (v := 0) hx hb dX0_limits_2 (by decide) ?_
  refine lv_aload_n hx hb dX0_limits_3 rfl (lv_at hl 0 rfl) ?_
  refine lv_iload_n hx hb dX0_limits_4 rfl (lv_at hl 1 rfl) ?_
  refine lv_iload_n hx hb dX0_limits_5 rfl (lv_at hl 2 rfl) ?_
  refine lv_iload_n hx hb dX0_limits_6 rfl (lv_at hl 3 rfl) ?_
  refine lv_iload hx hb dX0_limits_7 (lv_at hl 4 rfl) ?_
  have hlt0 : True := trivial
  refine vx_calli (zxr_V (As := [.int kd, .int a, .int b, .int d]) (rest := [.int 0, .ref oa]) ⟨hx, hb, hml, hown, hts⟩ (ct_X1_limits l hl0 g (fun q => A q ∧ q ≠ oa) S X T hY kd a b d) zn_X1_limits (lw_V q469 q470 q471 q39 q472) rfl (by decide) (by decide) hK (fun q h => h.1) hS (hT.split hoa) (zt_recv hK.1 (hT.split hoa) hY.w rfl) rfl hl.1 (Nat.le_of_ble_eq_true rfl) dX0_limits_9 ⟨by show _ + 1 ≤ 1; omega, by show _ + 6 ≤ 6; omega⟩) hS (fun _ _ h => h.1) (fun _ h => h.1) (fun _ _ h => h.1) (fun E ce q9 _ t H1 locs1 ht _ _ hB hz hkk hS1 h1 h2 h3 => ?_) (fun r u t H1 locs1 ht _ hp hB hz hkk hS1 => ?_)
  · obtain ⟨hT1, -⟩ := zTH.join hT (by rw [← ht]; exact hB.2) (hkk oa (hT.lt (va_up_self _ _ _)) (fun z => z.2 rfl))
    obtain ⟨rfl, hcd⟩ := hB.1
    refine vx_catch (pc := 9) hown [] ⟨0, 14, 17, 13⟩ [] (by rw [htab]; rfl) (fun z hz => by cases hz) (by decide) (by decide) (hts _ q256) (va_Nw.use (A := args) rfl (hK.2.1.2.2.1 _ _ q270)) h1 h2 h3 ?_
    have hT := hT1
    have hS := hS1
    refine lv_astore (lv' := [(6, .ref q9), (0, .ref (S.A 0)), (1, .int kd), (2, .int a), (3, .int b), (4, .int d), (5, .ref oa)]) hx hb dX0_limits_17 hl (by decide) rfl (fun ls hl => ?_)
    refine lv_iconst (v := 1) hx hb dX0_limits_19 (by decide) ?_
    exact vx_ret (ze_i hx hb hr hlocks hS dX0_limits_20 (by show _ ≤ 1; omega) (by show _ ≤ 6; omega) (S, T, f0) ⟨hcd.symm, hoa, Or.inr ⟨by decide, rfl, hY⟩⟩ hT)
  · obtain ⟨⟨rfl, hc0⟩, hY1⟩ := hp
    obtain ⟨hT, hn1⟩ := zTH.join hT (by rw [← ht]; exact hB) (hkk oa (hT.lt (va_up_self _ _ _)) (fun z => z.2 rfl))
    have hS := hS1
    refine lv_i2l (v := ((m_limits X kd a b d).1).toInt64) hx hb dX0_limits_12 rfl ?_
    refine zt_lst (k := 0) hx hb hK.1 hT hS (va_up_self _ _ _) (by decide) (by decide) dX0_limits_13 (fun H locs hT hS => ?_)
    rw [zup_up] at hT
    refine lv_goto (tgt := 21) hx hb dX0_limits_14 (by decide) ?_
    refine lv_iconst (v := 0) hx hb dX0_limits_21 (by decide) ?_
    exact vx_ret (ze_i hx hb hr hlocks hS dX0_limits_22 (by show _ ≤ 1; omega) (by show _ ≤ 6; omega) (S, u, va_up f0 0 (((m_limits X kd a b d).1).toInt64)) ⟨hc0.symm, hn1, Or.inl ⟨rfl, hY1, va_up_self f0 0 _, rfl⟩⟩ hT)
theorem zn_X0_fit : zN yX0_fit 4 := by decide +kernel
set_option maxHeartbeats 4000000 in
theorem ct_X0_fit (l : Launch) (hl0 : l.stackTraces = false) (g : zG) (A : Nat → Prop) (S : zS) (X : zX) (T : zT) (hY : zSy S g X T) (oa : Nat) (f0 : Nat → Int64) (hoa : T oa = none) (hI : MH X) (hC : zKo S X) (hO : zTo S X) (hL : zLo S X) (hMd : zMd X) (hCt : zCt S X) (hz12 : ∀ p, X 12 p = 0 ∨ X 12 p = 1) (x y : Int32) : vx_Met l yX0_fit (wsW_ yX0_fit cX0_fit 5 (some .int) [((0 : Nat), (10 : Nat), (13 : Nat), (25 : Nat)), ((0 : Nat), (10 : Nat), (17 : Nat), (13 : Nat)), ((0 : Nat), (10 : Nat), (21 : Nat), (15 : Nat))]) (zR 10 9 700) (zP [.ref (S.A 0), .int x, .int y, .ref oa] g A (zTH g A (va_up T oa (some (.inl (zJ g 1 f0)))))) (va_Qi (fun k (u : zS × zT × (Nat → Int64)) => k = (m_fit X x y).2 0 0 ∧ u.2.1 oa = none ∧ ((k = 0 ∧ zSy u.1 g (m_fit X x y).2 u.2.1 ∧ u.2.2 0 = (m_fit X x y).1.toInt64 ∧ ∃ q, u.1 = ((S.kS y.toNatClampNeg (S.K y.toNatClampNeg ++ [x.toNatClampNeg])).tA x.toNatClampNeg (some y.toNatClampNeg)).lA (q, x.toNatClampNeg, some y.toNatClampNeg, 0)) ∨ (¬ k = 0 ∧ u.1 = S ∧ zSy S g X u.2.1))) (fun u t => zTH g A (va_up u.2.1 oa (some (.inl (zJ g 1 u.2.2)))) t.heap) A) (vx_X (fun (_ : Unit) => False) (fun _ _ _ => True) A) 9 700 A := by
  refine zb_wmet (by decide) (Nat.le_of_ble_eq_true rfl) ?_
  intro p e s m args below meth c ls hx hb hr hml hown hts hlocks hnm hK hT ha_ hl htab
  have hown : s.vm.findClass RX0 = some m.cls := hown
  have hS : va_S A s.heap s.heap [] := va_S.rf
  have hl : lv_has ls 5 [(0, .ref (S.A 0)), (1, .int x), (2, .int y), (3, .ref oa)] := hl
  refine lv_aload_n hx hb dX0_fit_0 rfl (lv_at hl 3 rfl) ?_
  refine lv_iconst (v := 0) hx hb dX0_fit_1 (by decide) ?_
  refine lv_aload_n hx hb dX0_fit_2 rfl (lv_at hl 0 rfl) ?_
  refine lv_iload_n hx hb dX0_fit_3 rfl (lv_at hl 1 rfl) ?_
  refine lv_iload_n hx hb dX0_fit_4 rfl (lv_at hl 2 rfl) ?_
  have hlt0 : True := trivial
  refine vx_calli (zxr_V (As := [.int x, .int y]) (rest := [.int 0, .ref oa]) ⟨hx, hb, hml, hown, hts⟩ (ct_X1_fit l hl0 g (fun q => A q ∧ q ≠ oa) S X T hY hI hC hO hL hMd hCt hz12 x y) zn_X1_fit (lw_V q510 q511 q512 q39 q513) rfl (by decide) (by decide) hK (fun q h => h.1) hS (hT.split hoa) (zt_recv hK.1 (hT.split hoa) hY.w rfl) rfl hl.1 (Nat.le_of_ble_eq_true rfl) dX0_fit_5 ⟨by show _ + 9 ≤ 9; omega, by show _ + 700 ≤ 700; omega⟩) hS (fun _ _ h => h.1) (fun _ h => h.1) (fun _ _ h => h.1) (fun E ce q9 _ t H1 locs1 ht _ _ hB hz hkk hS1 h1 h2 h3 => ?_) (fun r u t H1 locs1 ht _ hp hB hz hkk hS1 => ?_)
  · obtain ⟨hT1, -⟩ := zTH.join hT (by rw [← ht]; exact hB.2) (hkk oa (hT.lt (va_up_self _ _ _)) (fun z => z.2 rfl))
    rcases hB.1 with ⟨rfl, hcd⟩ | ⟨rfl, hcd⟩ | ⟨rfl, hcd⟩
    · refine vx_catch (pc := 5) hown [] ⟨0, 10, 13, 25⟩ [⟨0, 10, 17, 13⟩, ⟨0, 10, 21, 15⟩] (by rw [htab]; rfl) (fun z hz => by cases hz) (by decide) (by decide) (hts _ q477) (va_Nw.use (A := args) rfl (hK.2.1.2.2.1 _ _ q524)) h1 h2 h3 ?_
      have hT := hT1
      have hS := hS1
      refine lv_astore (lv' := [(4, .ref q9), (0, .ref (S.A 0)), (1, .int x), (2, .int y), (3, .ref oa)]) hx hb dX0_fit_13 hl (by decide) rfl (fun ls hl => ?_)
      refine lv_iconst (v := 1) hx hb dX0_fit_15 (by decide) ?_
      exact vx_ret (ze_i hx hb hr hlocks hS dX0_fit_16 (by show _ ≤ 9; omega) (by show _ ≤ 700; omega) (S, T, f0) ⟨hcd.symm, hoa, Or.inr ⟨by decide, rfl, hY⟩⟩ hT)
    · refine vx_catch (pc := 5) hown [⟨0, 10, 13, 25⟩] ⟨0, 10, 17, 13⟩ [⟨0, 10, 21, 15⟩] (by rw [htab]; rfl) (fun z hz => by simp only [List.mem_cons, List.not_mem_nil, or_false] at hz; rcases hz with rfl; exact Or.inr ⟨by decide, _, hts _ q477, hK.2.1.2.2.2.2.2.2.2.2.2.1⟩) (by decide) (by decide) (hts _ q256) (va_Nw.use (A := args) rfl (hK.2.1.2.2.1 _ _ q270)) h1 h2 h3 ?_
      have hT := hT1
      have hS := hS1
      refine lv_astore (lv' := [(4, .ref q9), (0, .ref (S.A 0)), (1, .int x), (2, .int y), (3, .ref oa)]) hx hb dX0_fit_17 hl (by decide) rfl (fun ls hl => ?_)
      refine lv_iconst (v := 2) hx hb dX0_fit_19 (by decide) ?_
      exact vx_ret (ze_i hx hb hr hlocks hS dX0_fit_20 (by show _ ≤ 9; omega) (by show _ ≤ 700; omega) (S, T, f0) ⟨hcd.symm, hoa, Or.inr ⟨by decide, rfl, hY⟩⟩ hT)
    · refine vx_catch (pc := 5) hown [⟨0, 10, 13, 25⟩, ⟨0, 10, 17, 13⟩] ⟨0, 10, 21, 15⟩ [] (by rw [htab]; rfl) (fun z hz => by simp only [List.mem_cons, List.not_mem_nil, or_false] at hz; rcases hz with rfl | rfl <;> first | exact Or.inr ⟨by decide, _, hts _ q477, hK.2.1.2.2.2.2.2.2.2.2.2.2.1⟩ | exact Or.inr ⟨by decide, _, hts _ q256, hK.2.1.2.2.2.2.2.2.2.2.2.2.2⟩) (by decide) (by decide) (hts _ q257) (va_Nw.use (A := args) rfl (hK.2.1.2.2.1 _ _ q343)) h1 h2 h3 ?_
      have hT := hT1
      have hS := hS1
      refine lv_astore (lv' := [(4, .ref q9), (0, .ref (S.A 0)), (1, .int x), (2, .int y), (3, .ref oa)]) hx hb dX0_fit_21 hl (by decide) rfl (fun ls hl => ?_)
      refine lv_iconst (v := 3) hx hb dX0_fit_23 (by decide) ?_
      exact vx_ret (ze_i hx hb hr hlocks hS dX0_fit_24 (by show _ ≤ 9; omega) (by show _ ≤ 700; omega) (S, T, f0) ⟨hcd.symm, hoa, Or.inr ⟨by decide, rfl, hY⟩⟩ hT)
  · obtain ⟨⟨rfl, hc0⟩, hY1, hrel⟩ := hp
    obtain ⟨hT, hn1⟩ := zTH.join hT (by rw [← ht]; exact hB) (hkk oa (hT.lt (va_up_self _ _ _)) (fun z => z.2 rfl))
    have hS := hS1
    refine lv_i2l (v := ((m_fit X x y).1).toInt64) hx hb dX0_fit_8 rfl ?_
    refine zt_lst (k := 0) hx hb hK.1 hT hS (va_up_self _ _ _) (by decide) (by decide) dX0_fit_9 (fun H locs hT hS => ?_)
    rw [zup_up] at hT
    refine lv_goto (tgt := 25) hx hb dX0_fit_10 (by decide) ?_
    refine lv_iconst (v := 0) hx hb dX0_fit_25 (by decide) ?_
    exact vx_ret (ze_i hx hb hr hlocks hS dX0_fit_26 (by show _ ≤ 9; omega) (by show _ ≤ 700; omega) (u.1, u.2, va_up f0 0 (((m_fit X x y).1).toInt64)) ⟨hc0.symm, hn1, Or.inl ⟨rfl, hY1, va_up_self f0 0 _, hrel⟩⟩ hT)
theorem zn_X0_take : zN yX0_take 3 := by decide +kernel
set_option maxHeartbeats 4000000 in
theorem ct_X0_take (l : Launch) (hl0 : l.stackTraces = false) (g : zG) (A : Nat → Prop) (S : zS) (X : zX) (T : zT) (hY : zSy S g X T) (oa : Nat) (f0 : Nat → Int64) (hoa : T oa = none) (hI : MH X) (hC : zKo S X) (hO : zTo S X) (hL : zLo S X) (hz12 : ∀ p, X 12 p = 0 ∨ X 12 p = 1) (hKm : ∀ p, p < mN X → ¬ X 5 p < 0 → p ∈ S.K (mH X p)) (x : Int32) : vx_Met l yX0_take (wsW_ yX0_take cX0_take 4 (some .int) [((0 : Nat), (9 : Nat), (12 : Nat), (25 : Nat)), ((0 : Nat), (9 : Nat), (15 : Nat), (15 : Nat))]) (zR 10 9 700) (zP [.ref (S.A 0), .int x, .ref oa] g A (zTH g A (va_up T oa (some (.inl (zJ g 1 f0)))))) (va_Qi (fun k (u : zS × zT × (Nat → Int64)) => k = (m_take X x).2 0 0 ∧ u.2.1 oa = none ∧ ((k = 0 ∧ zSy u.1 g (m_take X x).2 u.2.1 ∧ u.2.2 0 = (m_take X x).1.toInt64 ∧ ∃ q, u.1 = ((S.kS (mH X x.toNatClampNeg) ((S.K (mH X x.toNatClampNeg)).erase x.toNatClampNeg)).tA x.toNatClampNeg none).lA (q, x.toNatClampNeg, none, 0)) ∨ (¬ k = 0 ∧ u.1 = S ∧ zSy S g X u.2.1))) (fun u t => zTH g A (va_up u.2.1 oa (some (.inl (zJ g 1 u.2.2)))) t.heap) A) (vx_X (fun (_ : Unit) => False) (fun _ _ _ => True) A) 9 700 A := by
  refine zb_wmet (by decide) (Nat.le_of_ble_eq_true rfl) ?_
  intro p e s m args below meth c ls hx hb hr hml hown hts hlocks hnm hK hT ha_ hl htab
  have hown : s.vm.findClass RX0 = some m.cls := hown
  have hS : va_S A s.heap s.heap [] := va_S.rf
  have hl : lv_has ls 4 [(0, .ref (S.A 0)), (1, .int x), (2, .ref oa)] := hl
  refine lv_aload_n hx hb dX0_take_0 rfl (lv_at hl 2 rfl) ?_
  refine lv_iconst (v := 0) hx hb dX0_take_1 (by decide) ?_
  refine lv_aload_n hx hb dX0_take_2 rfl (lv_at hl 0 rfl) ?_
  refine lv_iload_n hx hb dX0_take_3 rfl (lv_at hl 1 rfl) ?_
  have hlt0 : True := trivial
  refine vx_calli (zxr_V (As := [.int x]) (rest := [.int 0, .ref oa]) ⟨hx, hb, hml, hown, hts⟩ (ct_X1_take l hl0 g (fun q => A q ∧ q ≠ oa) S X T hY hI hC hO hL hz12 hKm x) zn_X1_take (lw_V q593 q594 q595 q39 q596) rfl (by decide) (by decide) hK (fun q h => h.1) hS (hT.split hoa) (zt_recv hK.1 (hT.split hoa) hY.w rfl) rfl hl.1 (Nat.le_of_ble_eq_true rfl) dX0_take_4 ⟨by show _ + 9 ≤ 9; omega, by show _ + 700 ≤ 700; omega⟩) hS (fun _ _ h => h.1) (fun _ h => h.1) (fun _ _ h => h.1) (fun E ce q9 _ t H1 locs1 ht _ _ hB hz hkk hS1 h1 h2 h3 => ?_) (fun r u t H1 locs1 ht _ hp hB hz hkk hS1 => ?_)
  · obtain ⟨hT1, -⟩ := zTH.join hT (by rw [← ht]; exact hB.2) (hkk oa (hT.lt (va_up_self _ _ _)) (fun z => z.2 rfl))
    rcases hB.1 with ⟨rfl, hcd⟩ | ⟨rfl, hcd⟩
    · refine vx_catch (pc := 4) hown [] ⟨0, 9, 12, 25⟩ [⟨0, 9, 15, 15⟩] (by rw [htab]; rfl) (fun z hz => by cases hz) (by decide) (by decide) (hts _ q477) (va_Nw.use (A := args) rfl (hK.2.1.2.2.1 _ _ q524)) h1 h2 h3 ?_
      have hT := hT1
      have hS := hS1
      refine lv_astore_n (lv' := [(3, .ref q9), (0, .ref (S.A 0)), (1, .int x), (2, .ref oa)]) hx hb dX0_take_12 rfl hl (by decide) rfl (fun ls hl => ?_)
      refine lv_iconst (v := 1) hx hb dX0_take_13 (by decide) ?_
      exact vx_ret (ze_i hx hb hr hlocks hS dX0_take_14 (by show _ ≤ 9; omega) (by show _ ≤ 700; omega) (S, T, f0) ⟨hcd.symm, hoa, Or.inr ⟨by decide, rfl, hY⟩⟩ hT)
    · refine vx_catch (pc := 4) hown [⟨0, 9, 12, 25⟩] ⟨0, 9, 15, 15⟩ [] (by rw [htab]; rfl) (fun z hz => by simp only [List.mem_cons, List.not_mem_nil, or_false] at hz; rcases hz with rfl; exact Or.inr ⟨by decide, _, hts _ q477, hK.2.1.2.2.2.2.2.2.2.2.2.2.1⟩) (by decide) (by decide) (hts _ q257) (va_Nw.use (A := args) rfl (hK.2.1.2.2.1 _ _ q343)) h1 h2 h3 ?_
      have hT := hT1
      have hS := hS1
      refine lv_astore_n (lv' := [(3, .ref q9), (0, .ref (S.A 0)), (1, .int x), (2, .ref oa)]) hx hb dX0_take_15 rfl hl (by decide) rfl (fun ls hl => ?_)
      refine lv_iconst (v := 2) hx hb dX0_take_16 (by decide) ?_
      exact vx_ret (ze_i hx hb hr hlocks hS dX0_take_17 (by show _ ≤ 9; omega) (by show _ ≤ 700; omega) (S, T, f0) ⟨hcd.symm, hoa, Or.inr ⟨by decide, rfl, hY⟩⟩ hT)
  · obtain ⟨⟨rfl, hc0⟩, hY1, hrel⟩ := hp
    obtain ⟨hT, hn1⟩ := zTH.join hT (by rw [← ht]; exact hB) (hkk oa (hT.lt (va_up_self _ _ _)) (fun z => z.2 rfl))
    have hS := hS1
    refine lv_i2l (v := ((m_take X x).1).toInt64) hx hb dX0_take_7 rfl ?_
    refine zt_lst (k := 0) hx hb hK.1 hT hS (va_up_self _ _ _) (by decide) (by decide) dX0_take_8 (fun H locs hT hS => ?_)
    rw [zup_up] at hT
    refine lv_goto (tgt := 18) hx hb dX0_take_9 (by decide) ?_
    refine lv_iconst (v := 0) hx hb dX0_take_18 (by decide) ?_
    exact vx_ret (ze_i hx hb hr hlocks hS dX0_take_19 (by show _ ≤ 9; omega) (by show _ ≤ 700; omega) (u.1, u.2, va_up f0 0 (((m_take X x).1).toInt64)) ⟨hc0.symm, hn1, Or.inl ⟨rfl, hY1, va_up_self f0 0 _, hrel⟩⟩ hT)
theorem zn_X0_scrap : zN yX0_scrap 2 := by decide +kernel
set_option maxHeartbeats 4000000 in
theorem ct_X0_scrap (l : Launch) (hl0 : l.stackTraces = false) (g : zG) (A : Nat → Prop) (S : zS) (X : zX) (T : zT) (hY : zSy S g X T) (hI : MH X) (hC : zKo S X) (hO : zTo S X) (hW : zWo S X) (hCt : zCt S X) (hz12 : ∀ p, X 12 p = 0 ∨ X 12 p = 1) (hws : ∀ i, i < mN X → S.Wt.any (fun e => decide (e.2.1 = i)) = mWs X (nI i)) (hrel : ∀ p, p < mN X → (S.K p).length = 0 → X 11 p = 0) (x : Int32) : vx_Met l yX0_scrap (wsW_ yX0_scrap cX0_scrap 3 (some .int) [((0 : Nat), (5 : Nat), (8 : Nat), (25 : Nat)), ((0 : Nat), (5 : Nat), (11 : Nat), (15 : Nat))]) (zR 10 3 172) (zP [.ref (S.A 0), .int x] g A (zTH g A T)) (va_Qi (fun k (u : zS × zT) => k = (m_scrap X x) 0 0 ∧ ((k = 0 ∧ zSy u.1 g (m_scrap X x) u.2 ∧ u.1 = S.tA x.toNatClampNeg none) ∨ (¬ k = 0 ∧ u.1 = S ∧ zSy S g X u.2))) (fun u t => zTH g A u.2 t.heap) A) (vx_X (fun (_ : Unit) => False) (fun _ _ _ => True) A) 3 172 A := by
  refine zb_wmet (by decide) (Nat.le_of_ble_eq_true rfl) ?_
  intro p e s m args below meth c ls hx hb hr hml hown hts hlocks hnm hK hT ha_ hl htab
  have hown : s.vm.findClass RX0 = some m.cls := hown
  have hS : va_S A s.heap s.heap [] := va_S.rf
  have hl : lv_has ls 3 [(0, .ref (S.A 0)), (1, .int x)] := hl
  refine lv_aload_n hx hb dX0_scrap_0 rfl (lv_at hl 0 rfl) ?_
  refine lv_iload_n hx hb dX0_scrap_1 rfl (lv_at hl 1 rfl) ?_
  have hlt0 : True := trivial
  refine vx_callv (zxr_V (As := [.int x]) (rest := []) ⟨hx, hb, hml, hown, hts⟩ (ct_X1_scrap l hl0 g A S X T hY hI hC hO hW hCt hz12 hws hrel x) zn_X1_scrap (lw_V q627 q628 q629 q39 q630) rfl (by decide) (by decide) hK (fun _ h => h) hS hT (zt_recv hK.1 hT hY.w rfl) rfl hl.1 (Nat.le_of_ble_eq_true rfl) dX0_scrap_2 ⟨by show _ + 3 ≤ 3; omega, by show _ + 172 ≤ 172; omega⟩) hS (fun _ _ h => h) (fun _ h => h) (fun _ _ h => h) (fun E ce q9 _ t H1 locs1 ht _ _ hB hz hkk hS1 h1 h2 h3 => ?_) (fun  u t H1 locs1 ht _ hp hB hz hkk hS1 => ?_)
  · have hT1 : zTH g A T H1 := by rw [← ht]; exact hB.2
    rcases hB.1 with ⟨rfl, hcd⟩ | ⟨rfl, hcd⟩
    · refine vx_catch (pc := 2) hown [] ⟨0, 5, 8, 25⟩ [⟨0, 5, 11, 15⟩] (by rw [htab]; rfl) (fun z hz => by cases hz) (by decide) (by decide) (hts _ q477) (va_Nw.use (A := args) rfl (hK.2.1.2.2.1 _ _ q524)) h1 h2 h3 ?_
      have hT := hT1
      have hS := hS1
      refine lv_astore_n (lv' := [(2, .ref q9), (0, .ref (S.A 0)), (1, .int x)]) hx hb dX0_scrap_8 rfl hl (by decide) rfl (fun ls hl => ?_)
      refine lv_iconst (v := 1) hx hb dX0_scrap_9 (by decide) ?_
      exact vx_ret (ze_i hx hb hr hlocks hS dX0_scrap_10 (by show _ ≤ 3; omega) (by show _ ≤ 172; omega) (S, T) ⟨hcd.symm, Or.inr ⟨by decide, rfl, hY⟩⟩ hT)
    · refine vx_catch (pc := 2) hown [⟨0, 5, 8, 25⟩] ⟨0, 5, 11, 15⟩ [] (by rw [htab]; rfl) (fun z hz => by simp only [List.mem_cons, List.not_mem_nil, or_false] at hz; rcases hz with rfl; exact Or.inr ⟨by decide, _, hts _ q477, hK.2.1.2.2.2.2.2.2.2.2.2.2.1⟩) (by decide) (by decide) (hts _ q257) (va_Nw.use (A := args) rfl (hK.2.1.2.2.1 _ _ q343)) h1 h2 h3 ?_
      have hT := hT1
      have hS := hS1
      refine lv_astore_n (lv' := [(2, .ref q9), (0, .ref (S.A 0)), (1, .int x)]) hx hb dX0_scrap_11 rfl hl (by decide) rfl (fun ls hl => ?_)
      refine lv_iconst (v := 2) hx hb dX0_scrap_12 (by decide) ?_
      exact vx_ret (ze_i hx hb hr hlocks hS dX0_scrap_13 (by show _ ≤ 3; omega) (by show _ ≤ 172; omega) (S, T) ⟨hcd.symm, Or.inr ⟨by decide, rfl, hY⟩⟩ hT)
  · obtain ⟨hc0, hY1, hrel⟩ := hp
    have hT : zTH g A u.2 H1 := by rw [← ht]; exact hB
    have hS := hS1
    refine lv_goto (tgt := 14) hx hb dX0_scrap_5 (by decide) ?_
    refine lv_iconst (v := 0) hx hb dX0_scrap_14 (by decide) ?_
    exact vx_ret (ze_i hx hb hr hlocks hS dX0_scrap_15 (by show _ ≤ 3; omega) (by show _ ≤ 172; omega) (u.1, u.2) ⟨hc0.symm, Or.inl ⟨rfl, hY1, hrel⟩⟩ hT)
theorem zn_X0_run : zN yX0_run 5 := by decide +kernel
set_option maxHeartbeats 4000000 in
theorem ct_X0_run (l : Launch) (hl0 : l.stackTraces = false) (g : zG) (A : Nat → Prop) (S : zS) (X : zX) (T : zT) (hY : zSy S g X T) (oa : Nat) (f0 : Nat → Int64) (hoa : T oa = none) (x km se : Int32) (hI : MH X) (hC : zKo S X) (hKk : zKk S X) (hL : zLo S X) (hz12 : ∀ p, X 12 p = 0 ∨ X 12 p = 1) (hnd : ∀ i, i < mN X → (zDn S 5 i).Nodup) (hfl : ∀ t, t < mN X → X 2 t = 0 → ¬ X 11 t = 0 → zin km 1 2000 = true → ∀ p ∈ zDn S 5 t, zfl X km p) (hrn : ∀ t, t < mN X → X 2 t = 0 → ¬ X 11 t = 0 → X 12 (mHd X t) = 0 → zin km 1 2000 = true → zin se 0 3 = true → (mRn t km se (mN X) (zu (zu X 0 0 0) 11 t 0, -1)).1 0 0 = 0 ∧ (zfi (zF7 (zgo S km se 5 t (zu X 11 t 0)) t) (mN X) 0 = none → (mRn t km se (mN X) (zu (zu X 0 0 0) 11 t 0, -1)).2 = -1 ∧ ∀ k, k ≠ 0 → k < 23 → (mRn t km se (mN X) (zu (zu X 0 0 0) 11 t 0, -1)).1 k = zgo S km se 5 t (zu X 11 t 0) k) ∧ ∀ b, zfi (zF7 (zgo S km se 5 t (zu X 11 t 0)) t) (mN X) 0 = some b → (mRn t km se (mN X) (zu (zu X 0 0 0) 11 t 0, -1)).2 = nI b ∧ ∀ k, k ≠ 0 → k < 23 → mHl (mRn t km se (mN X) (zu (zu X 0 0 0) 11 t 0, -1)).1 t (mN X) k = zqa S 5 t (zgo S km se 5 t (zu X 11 t 0)) k) : vx_Met l yX0_run (wsW_ yX0_run cX0_run 6 (some .int) [((0 : Nat), (12 : Nat), (15 : Nat), (25 : Nat)), ((0 : Nat), (12 : Nat), (19 : Nat), (13 : Nat)), ((0 : Nat), (12 : Nat), (23 : Nat), (15 : Nat))]) (zR 15 8 190) (zP [.ref (S.A 0), .int x, .int km, .int se, .ref oa] g A (zTH g A (va_up T oa (some (.inl (zJ g 1 f0)))))) (va_Qi (fun k (u : zS × zT × (Nat → Int64)) => k = (m_run X x km se).2 0 0 ∧ u.2.1 oa = none ∧ ((k = 0 ∧ zSy u.1 g (m_run X x km se).2 u.2.1 ∧ u.2.2 0 = (m_run X x km se).1.toInt64 ∧ ∃ q, u.1 = S.lA (q, x.toNatClampNeg, none, km)) ∨ (¬ k = 0 ∧ u.1 = S ∧ zSy S g X u.2.1))) (fun u t => zTH g A (va_up u.2.1 oa (some (.inl (zJ g 1 u.2.2)))) t.heap) A) (vx_X (fun (_ : Unit) => False) (fun _ _ _ => True) A) 8 190 A := by
  refine zb_wmet (by decide) (Nat.le_of_ble_eq_true rfl) ?_
  intro p e s m args below meth c ls hx hb hr hml hown hts hlocks hnm hK hT ha_ hl htab
  have hown : s.vm.findClass RX0 = some m.cls := hown
  have hS : va_S A s.heap s.heap [] := va_S.rf
  have hl : lv_has ls 6 [(0, .ref (S.A 0)), (1, .int x), (2, .int km), (3, .int se), (4, .ref oa)] := hl
  refine lv_aload hx hb dX0_run_0 (lv_at hl 4 rfl) ?_
  refine lv_iconst (v := 0) hx hb dX0_run_2 (by decide) ?_
  refine lv_aload_n hx hb dX0_run_3 rfl (lv_at hl 0 rfl) ?_
  refine lv_iload_n hx hb dX0_run_4 rfl (lv_at hl 1 rfl) ?_
  refine lv_iload_n hx hb dX0_run_5 rfl (lv_at hl 2 rfl) ?_
  refine lv_iload_n hx hb dX0_run_6 rfl (lv_at hl 3 rfl) ?_
  have hlt0 : True := trivial
  refine vx_calli (zxr_V (As := [.int x, .int km, .int se]) (rest := [.int 0, .ref oa]) ⟨hx, hb, hml, hown, hts⟩ (ct_X1_run l hl0 g (fun q => A q ∧ q ≠ oa) S X T hY x km se hI hC hKk hL hz12 hnd hfl hrn) zn_X1_run (lw_V q638 q639 q640 q39 q641) rfl (by decide) (by decide) hK (fun q h => h.1) hS (hT.split hoa) (zt_recv hK.1 (hT.split hoa) hY.w rfl) rfl hl.1 (Nat.le_of_ble_eq_true rfl) dX0_run_7 ⟨by show _ + 8 ≤ 8; omega, by show _ + 190 ≤ 190; omega⟩) hS (fun _ _ h => h.1) (fun _ h => h.1) (fun _ _ h => h.1) (fun E ce q9 _ t H1 locs1 ht _ _ hB hz hkk hS1 h1 h2 h3 => ?_) (fun r u t H1 locs1 ht _ hp hB hz hkk hS1 => ?_)
  · obtain ⟨hT1, -⟩ := zTH.join hT (by rw [← ht]; exact hB.2) (hkk oa (hT.lt (va_up_self _ _ _)) (fun z => z.2 rfl))
    rcases hB.1 with ⟨rfl, hcd⟩ | ⟨rfl, hcd⟩ | ⟨rfl, hcd⟩
    · refine vx_catch (pc := 7) hown [] ⟨0, 12, 15, 25⟩ [⟨0, 12, 19, 13⟩, ⟨0, 12, 23, 15⟩] (by rw [htab]; rfl) (fun z hz => by cases hz) (by decide) (by decide) (hts _ q477) (va_Nw.use (A := args) rfl (hK.2.1.2.2.1 _ _ q524)) h1 h2 h3 ?_
      have hT := hT1
      have hS := hS1
      refine lv_astore (lv' := [(5, .ref q9), (0, .ref (S.A 0)), (1, .int x), (2, .int km), (3, .int se), (4, .ref oa)]) hx hb dX0_run_15 hl (by decide) rfl (fun ls hl => ?_)
      refine lv_iconst (v := 1) hx hb dX0_run_17 (by decide) ?_
      exact vx_ret (ze_i hx hb hr hlocks hS dX0_run_18 (by show _ ≤ 8; omega) (by show _ ≤ 190; omega) (S, T, f0) ⟨hcd.symm, hoa, Or.inr ⟨by decide, rfl, hY⟩⟩ hT)
    · refine vx_catch (pc := 7) hown [⟨0, 12, 15, 25⟩] ⟨0, 12, 19, 13⟩ [⟨0, 12, 23, 15⟩] (by rw [htab]; rfl) (fun z hz => by simp only [List.mem_cons, List.not_mem_nil, or_false] at hz; rcases hz with rfl; exact Or.inr ⟨by decide, _, hts _ q477, hK.2.1.2.2.2.2.2.2.2.2.2.1⟩) (by decide) (by decide) (hts _ q256) (va_Nw.use (A := args) rfl (hK.2.1.2.2.1 _ _ q270)) h1 h2 h3 ?_
      have hT := hT1
      have hS := hS1
      refine lv_astore (lv' := [(5, .ref q9), (0, .ref (S.A 0)), (1, .int x), (2, .int km), (3, .int se), (4, .ref oa)]) hx hb dX0_run_19 hl (by decide) rfl (fun ls hl => ?_)
      refine lv_iconst (v := 2) hx hb dX0_run_21 (by decide) ?_
      exact vx_ret (ze_i hx hb hr hlocks hS dX0_run_22 (by show _ ≤ 8; omega) (by show _ ≤ 190; omega) (S, T, f0) ⟨hcd.symm, hoa, Or.inr ⟨by decide, rfl, hY⟩⟩ hT)
    · refine vx_catch (pc := 7) hown [⟨0, 12, 15, 25⟩, ⟨0, 12, 19, 13⟩] ⟨0, 12, 23, 15⟩ [] (by rw [htab]; rfl) (fun z hz => by simp only [List.mem_cons, List.not_mem_nil, or_false] at hz; rcases hz with rfl | rfl <;> first | exact Or.inr ⟨by decide, _, hts _ q477, hK.2.1.2.2.2.2.2.2.2.2.2.2.1⟩ | exact Or.inr ⟨by decide, _, hts _ q256, hK.2.1.2.2.2.2.2.2.2.2.2.2.2⟩) (by decide) (by decide) (hts _ q257) (va_Nw.use (A := args) rfl (hK.2.1.2.2.1 _ _ q343)) h1 h2 h3 ?_
      have hT := hT1
      have hS := hS1
      refine lv_astore (lv' := [(5, .ref q9), (0, .ref (S.A 0)), (1, .int x), (2, .int km), (3, .int se), (4, .ref oa)]) hx hb dX0_run_23 hl (by decide) rfl (fun ls hl => ?_)
      refine lv_iconst (v := 3) hx hb dX0_run_25 (by decide) ?_
      exact vx_ret (ze_i hx hb hr hlocks hS dX0_run_26 (by show _ ≤ 8; omega) (by show _ ≤ 190; omega) (S, T, f0) ⟨hcd.symm, hoa, Or.inr ⟨by decide, rfl, hY⟩⟩ hT)
  · obtain ⟨⟨rfl, hc0⟩, hY1, hrel⟩ := hp
    obtain ⟨hT, hn1⟩ := zTH.join hT (by rw [← ht]; exact hB) (hkk oa (hT.lt (va_up_self _ _ _)) (fun z => z.2 rfl))
    have hS := hS1
    refine lv_i2l (v := ((m_run X x km se).1).toInt64) hx hb dX0_run_10 rfl ?_
    refine zt_lst (k := 0) hx hb hK.1 hT hS (va_up_self _ _ _) (by decide) (by decide) dX0_run_11 (fun H locs hT hS => ?_)
    rw [zup_up] at hT
    refine lv_goto (tgt := 27) hx hb dX0_run_12 (by decide) ?_
    refine lv_iconst (v := 0) hx hb dX0_run_27 (by decide) ?_
    exact vx_ret (ze_i hx hb hr hlocks hS dX0_run_28 (by show _ ≤ 8; omega) (by show _ ≤ 190; omega) (u.1, u.2, va_up f0 0 (((m_run X x km se).1).toInt64)) ⟨hc0.symm, hn1, Or.inl ⟨rfl, hY1, va_up_self f0 0 _, hrel⟩⟩ hT)
theorem zn_X0_turn : zN yX0_turn 3 := by decide +kernel
set_option maxHeartbeats 4000000 in
theorem ct_X0_turn (l : Launch) (hl0 : l.stackTraces = false) (g : zG) (A : Nat → Prop) (S : zS) (X : zX) (T : zT) (hY : zSy S g X T) (oa : Nat) (f0 : Nat → Int64) (hoa : T oa = none) (hI : MH X) (hC : zKo S X) (hKk : zKk S X) (hz12 : ∀ p, X 12 p = 0 ∨ X 12 p = 1) (hcn : ∀ i, i < mN X → X 2 i = 2 → (S.K i).countP (fun q => decide (X 2 q = 3)) = mIn X (nI i) 3 ∧ mIn X (nI i) 3 ≤ 2) (htu : ∀ i, i < mN X → X 2 i = 2 → (S.K i).countP (fun q => decide (X 2 q = 3)) = 2 → (ztn S X i).1 = (mTu (zu X 0 0 0) (mWo X (nI i) false).toNatClampNeg (mWo X (nI i) true).toNatClampNeg).1 ∧ ∀ k, k ≠ 0 → k < 23 → (mTu (zu X 0 0 0) (mWo X (nI i) false).toNatClampNeg (mWo X (nI i) true).toNatClampNeg).2 k = (ztn S X i).2 k) (x : Int32) : vx_Met l yX0_turn (wsW_ yX0_turn cX0_turn 4 (some .int) [((0 : Nat), (9 : Nat), (12 : Nat), (25 : Nat)), ((0 : Nat), (9 : Nat), (15 : Nat), (13 : Nat)), ((0 : Nat), (9 : Nat), (18 : Nat), (15 : Nat))]) (zR 13 5 26) (zP [.ref (S.A 0), .int x, .ref oa] g A (zTH g A (va_up T oa (some (.inl (zJ g 1 f0)))))) (va_Qi (fun k (u : zS × zT × (Nat → Int64)) => k = (m_turn X x).2 0 0 ∧ u.2.1 oa = none ∧ ((k = 0 ∧ zSy u.1 g (m_turn X x).2 u.2.1 ∧ u.2.2 0 = (m_turn X x).1.toInt64 ∧ u.1 = S) ∨ (¬ k = 0 ∧ u.1 = S ∧ zSy S g X u.2.1))) (fun u t => zTH g A (va_up u.2.1 oa (some (.inl (zJ g 1 u.2.2)))) t.heap) A) (vx_X (fun (_ : Unit) => False) (fun _ _ _ => True) A) 5 26 A := by
  refine zb_wmet (by decide) (Nat.le_of_ble_eq_true rfl) ?_
  intro p e s m args below meth c ls hx hb hr hml hown hts hlocks hnm hK hT ha_ hl htab
  have hown : s.vm.findClass RX0 = some m.cls := hown
  have hS : va_S A s.heap s.heap [] := va_S.rf
  have hl : lv_has ls 4 [(0, .ref (S.A 0)), (1, .int x), (2, .ref oa)] := hl
  refine lv_aload_n hx hb dX0_turn_0 rfl (lv_at hl 2 rfl) ?_
  refine lv_iconst (v := 0) hx hb dX0_turn_1 (by decide) ?_
  refine lv_aload_n hx hb dX0_turn_2 rfl (lv_at hl 0 rfl) ?_
  refine lv_iload_n hx hb dX0_turn_3 rfl (lv_at hl 1 rfl) ?_
  have hlt0 : True := trivial
  refine vx_calli (zxr_V (As := [.int x]) (rest := [.int 0, .ref oa]) ⟨hx, hb, hml, hown, hts⟩ (ct_X1_turn l hl0 g (fun q => A q ∧ q ≠ oa) S X T hY hI hC hKk hz12 hcn htu x) zn_X1_turn (lw_V q741 q742 q743 q39 q744) rfl (by decide) (by decide) hK (fun q h => h.1) hS (hT.split hoa) (zt_recv hK.1 (hT.split hoa) hY.w rfl) rfl hl.1 (Nat.le_of_ble_eq_true rfl) dX0_turn_4 ⟨by show _ + 5 ≤ 5; omega, by show _ + 26 ≤ 26; omega⟩) hS (fun _ _ h => h.1) (fun _ h => h.1) (fun _ _ h => h.1) (fun E ce q9 _ t H1 locs1 ht _ _ hB hz hkk hS1 h1 h2 h3 => ?_) (fun r u t H1 locs1 ht _ hp hB hz hkk hS1 => ?_)
  · obtain ⟨hT1, -⟩ := zTH.join hT (by rw [← ht]; exact hB.2) (hkk oa (hT.lt (va_up_self _ _ _)) (fun z => z.2 rfl))
    rcases hB.1 with ⟨rfl, hcd⟩ | ⟨rfl, hcd⟩ | ⟨rfl, hcd⟩
    · refine vx_catch (pc := 4) hown [] ⟨0, 9, 12, 25⟩ [⟨0, 9, 15, 13⟩, ⟨0, 9, 18, 15⟩] (by rw [htab]; rfl) (fun z hz => by cases hz) (by decide) (by decide) (hts _ q477) (va_Nw.use (A := args) rfl (hK.2.1.2.2.1 _ _ q524)) h1 h2 h3 ?_
      have hT := hT1
      have hS := hS1
      refine lv_astore_n (lv' := [(3, .ref q9), (0, .ref (S.A 0)), (1, .int x), (2, .ref oa)]) hx hb dX0_turn_12 rfl hl (by decide) rfl (fun ls hl => ?_)
      refine lv_iconst (v := 1) hx hb dX0_turn_13 (by decide) ?_
      exact vx_ret (ze_i hx hb hr hlocks hS dX0_turn_14 (by show _ ≤ 5; omega) (by show _ ≤ 26; omega) (S, T, f0) ⟨hcd.symm, hoa, Or.inr ⟨by decide, rfl, hY⟩⟩ hT)
    · refine vx_catch (pc := 4) hown [⟨0, 9, 12, 25⟩] ⟨0, 9, 15, 13⟩ [⟨0, 9, 18, 15⟩] (by rw [htab]; rfl) (fun z hz => by simp only [List.mem_cons, List.not_mem_nil, or_false] at hz; rcases hz with rfl; exact Or.inr ⟨by decide, _, hts _ q477, hK.2.1.2.2.2.2.2.2.2.2.2.1⟩) (by decide) (by decide) (hts _ q256) (va_Nw.use (A := args) rfl (hK.2.1.2.2.1 _ _ q270)) h1 h2 h3 ?_
      have hT := hT1
      have hS := hS1
      refine lv_astore_n (lv' := [(3, .ref q9), (0, .ref (S.A 0)), (1, .int x), (2, .ref oa)]) hx hb dX0_turn_15 rfl hl (by decide) rfl (fun ls hl => ?_)
      refine lv_iconst (v := 2) hx hb dX0_turn_16 (by decide) ?_
      exact vx_ret (ze_i hx hb hr hlocks hS dX0_turn_17 (by show _ ≤ 5; omega) (by show _ ≤ 26; omega) (S, T, f0) ⟨hcd.symm, hoa, Or.inr ⟨by decide, rfl, hY⟩⟩ hT)
    · refine vx_catch (pc := 4) hown [⟨0, 9, 12, 25⟩, ⟨0, 9, 15, 13⟩] ⟨0, 9, 18, 15⟩ [] (by rw [htab]; rfl) (fun z hz => by simp only [List.mem_cons, List.not_mem_nil, or_false] at hz; rcases hz with rfl | rfl <;> first | exact Or.inr ⟨by decide, _, hts _ q477, hK.2.1.2.2.2.2.2.2.2.2.2.2.1⟩ | exact Or.inr ⟨by decide, _, hts _ q256, hK.2.1.2.2.2.2.2.2.2.2.2.2.2⟩) (by decide) (by decide) (hts _ q257) (va_Nw.use (A := args) rfl (hK.2.1.2.2.1 _ _ q343)) h1 h2 h3 ?_
      have hT := hT1
      have hS := hS1
      refine lv_astore_n (lv' := [(3, .ref q9), (0, .ref (S.A 0)), (1, .int x), (2, .ref oa)]) hx hb dX0_turn_18 rfl hl (by decide) rfl (fun ls hl => ?_)
      refine lv_iconst (v := 3) hx hb dX0_turn_19 (by decide) ?_
      exact vx_ret (ze_i hx hb hr hlocks hS dX0_turn_20 (by show _ ≤ 5; omega) (by show _ ≤ 26; omega) (S, T, f0) ⟨hcd.symm, hoa, Or.inr ⟨by decide, rfl, hY⟩⟩ hT)
  · obtain ⟨⟨rfl, hc0⟩, hY1⟩ := hp
    obtain ⟨hT, hn1⟩ := zTH.join hT (by rw [← ht]; exact hB) (hkk oa (hT.lt (va_up_self _ _ _)) (fun z => z.2 rfl))
    have hS := hS1
    refine lv_i2l (v := ((m_turn X x).1).toInt64) hx hb dX0_turn_7 rfl ?_
    refine zt_lst (k := 0) hx hb hK.1 hT hS (va_up_self _ _ _) (by decide) (by decide) dX0_turn_8 (fun H locs hT hS => ?_)
    rw [zup_up] at hT
    refine lv_goto (tgt := 21) hx hb dX0_turn_9 (by decide) ?_
    refine lv_iconst (v := 0) hx hb dX0_turn_21 (by decide) ?_
    exact vx_ret (ze_i hx hb hr hlocks hS dX0_turn_22 (by show _ ≤ 5; omega) (by show _ ≤ 26; omega) (S, u, va_up f0 0 (((m_turn X x).1).toInt64)) ⟨hc0.symm, hn1, Or.inl ⟨rfl, hY1, va_up_self f0 0 _, rfl⟩⟩ hT)
theorem zn_X0_gate : zN yX0_gate 4 := by decide +kernel
set_option maxHeartbeats 4000000 in
theorem ct_X0_gate (l : Launch) (hl0 : l.stackTraces = false) (g : zG) (A : Nat → Prop) (S : zS) (X : zX) (T : zT) (hY : zSy S g X T) (oa : Nat) (f0 : Nat → Int64) (hoa : T oa = none) (hI : MH X) (x er : Int32) : vx_Met l yX0_gate (wsW_ yX0_gate cX0_gate 5 (some .int) [((0 : Nat), (10 : Nat), (13 : Nat), (25 : Nat)), ((0 : Nat), (10 : Nat), (17 : Nat), (13 : Nat))]) (zR 10 3 18) (zP [.ref (S.A 0), .int x, .int er, .ref oa] g A (zTH g A (va_up T oa (some (.inl (zJ g 1 f0)))))) (va_Qi (fun k (u : zS × zT × (Nat → Int64)) => k = (m_gate X x er).2 0 0 ∧ u.2.1 oa = none ∧ ((k = 0 ∧ zSy u.1 g (m_gate X x er).2 u.2.1 ∧ u.2.2 0 = (m_gate X x er).1.toInt64 ∧ u.1 = S) ∨ (¬ k = 0 ∧ u.1 = S ∧ zSy S g X u.2.1))) (fun u t => zTH g A (va_up u.2.1 oa (some (.inl (zJ g 1 u.2.2)))) t.heap) A) (vx_X (fun (_ : Unit) => False) (fun _ _ _ => True) A) 3 18 A := by
  refine zb_wmet (by decide) (Nat.le_of_ble_eq_true rfl) ?_
  intro p e s m args below meth c ls hx hb hr hml hown hts hlocks hnm hK hT ha_ hl htab
  have hown : s.vm.findClass RX0 = some m.cls := hown
  have hS : va_S A s.heap s.heap [] := va_S.rf
  have hl : lv_has ls 5 [(0, .ref (S.A 0)), (1, .int x), (2, .int er), (3, .ref oa)] := hl
  refine lv_aload_n hx hb dX0_gate_0 rfl (lv_at hl 3 rfl) ?_
  refine lv_iconst (v := 0) hx hb dX0_gate_1 (by decide) ?_
  refine lv_aload_n hx hb dX0_gate_2 rfl (lv_at hl 0 rfl) ?_
  refine lv_iload_n hx hb dX0_gate_3 rfl (lv_at hl 1 rfl) ?_
  refine lv_iload_n hx hb dX0_gate_4 rfl (lv_at hl 2 rfl) ?_
  have hlt0 : True := trivial
  refine vx_calli (zxr_V (As := [.int x, .int er]) (rest := [.int 0, .ref oa]) ⟨hx, hb, hml, hown, hts⟩ (ct_X1_gate l hl0 g (fun q => A q ∧ q ≠ oa) S X T hY hI x er) zn_X1_gate (lw_V q799 q800 q801 q39 q802) rfl (by decide) (by decide) hK (fun q h => h.1) hS (hT.split hoa) (zt_recv hK.1 (hT.split hoa) hY.w rfl) rfl hl.1 (Nat.le_of_ble_eq_true rfl) dX0_gate_5 ⟨by show _ + 3 ≤ 3; omega, by show _ + 18 ≤ 18; omega⟩) hS (fun _ _ h => h.1) (fun _ h => h.1) (fun _ _ h => h.1) (fun E ce q9 _ t H1 locs1 ht _ _ hB hz hkk hS1 h1 h2 h3 => ?_) (fun r u t H1 locs1 ht _ hp hB hz hkk hS1 => ?_)
  · obtain ⟨hT1, -⟩ := zTH.join hT (by rw [← ht]; exact hB.2) (hkk oa (hT.lt (va_up_self _ _ _)) (fun z => z.2 rfl))
    rcases hB.1 with ⟨rfl, hcd⟩ | ⟨rfl, hcd⟩
    · refine vx_catch (pc := 5) hown [] ⟨0, 10, 13, 25⟩ [⟨0, 10, 17, 13⟩] (by rw [htab]; rfl) (fun z hz => by cases hz) (by decide) (by decide) (hts _ q477) (va_Nw.use (A := args) rfl (hK.2.1.2.2.1 _ _ q524)) h1 h2 h3 ?_
      have hT := hT1
      have hS := hS1
      refine lv_astore (lv' := [(4, .ref q9), (0, .ref (S.A 0)), (1, .int x), (2, .int er), (3, .ref oa)]) hx hb dX0_gate_13 hl (by decide) rfl (fun ls hl => ?_)
      refine lv_iconst (v := 1) hx hb dX0_gate_15 (by decide) ?_
      exact vx_ret (ze_i hx hb hr hlocks hS dX0_gate_16 (by show _ ≤ 3; omega) (by show _ ≤ 18; omega) (S, T, f0) ⟨hcd.symm, hoa, Or.inr ⟨by decide, rfl, hY⟩⟩ hT)
    · refine vx_catch (pc := 5) hown [⟨0, 10, 13, 25⟩] ⟨0, 10, 17, 13⟩ [] (by rw [htab]; rfl) (fun z hz => by simp only [List.mem_cons, List.not_mem_nil, or_false] at hz; rcases hz with rfl; exact Or.inr ⟨by decide, _, hts _ q477, hK.2.1.2.2.2.2.2.2.2.2.2.1⟩) (by decide) (by decide) (hts _ q256) (va_Nw.use (A := args) rfl (hK.2.1.2.2.1 _ _ q270)) h1 h2 h3 ?_
      have hT := hT1
      have hS := hS1
      refine lv_astore (lv' := [(4, .ref q9), (0, .ref (S.A 0)), (1, .int x), (2, .int er), (3, .ref oa)]) hx hb dX0_gate_17 hl (by decide) rfl (fun ls hl => ?_)
      refine lv_iconst (v := 2) hx hb dX0_gate_19 (by decide) ?_
      exact vx_ret (ze_i hx hb hr hlocks hS dX0_gate_20 (by show _ ≤ 3; omega) (by show _ ≤ 18; omega) (S, T, f0) ⟨hcd.symm, hoa, Or.inr ⟨by decide, rfl, hY⟩⟩ hT)
  · obtain ⟨⟨rfl, hc0⟩, hY1⟩ := hp
    obtain ⟨hT, hn1⟩ := zTH.join hT (by rw [← ht]; exact hB) (hkk oa (hT.lt (va_up_self _ _ _)) (fun z => z.2 rfl))
    have hS := hS1
    refine lv_i2l (v := ((m_gate X x er).1).toInt64) hx hb dX0_gate_8 rfl ?_
    refine zt_lst (k := 0) hx hb hK.1 hT hS (va_up_self _ _ _) (by decide) (by decide) dX0_gate_9 (fun H locs hT hS => ?_)
    rw [zup_up] at hT
    refine lv_goto (tgt := 21) hx hb dX0_gate_10 (by decide) ?_
    refine lv_iconst (v := 0) hx hb dX0_gate_21 (by decide) ?_
    exact vx_ret (ze_i hx hb hr hlocks hS dX0_gate_22 (by show _ ≤ 3; omega) (by show _ ≤ 18; omega) (S, u, va_up f0 0 (((m_gate X x er).1).toInt64)) ⟨hc0.symm, hn1, Or.inl ⟨rfl, hY1, va_up_self f0 0 _, rfl⟩⟩ hT)
theorem zn_X0_examine : zN yX0_examine 3 := by decide +kernel
set_option maxHeartbeats 4000000 in
theorem ct_X0_examine (l : Launch) (hl0 : l.stackTraces = false) (g : zG) (A : Nat → Prop) (S : zS) (X : zX) (T : zT) (hY : zSy S g X T) (oa : Nat) (f0 : Nat → Int64) (hoa : T oa = none) (hI : MH X) (hz12 : ∀ p, X 12 p = 0 ∨ X 12 p = 1) (x : Int32) : vx_Met l yX0_examine (wsW_ yX0_examine cX0_examine 4 (some .int) [((0 : Nat), (9 : Nat), (12 : Nat), (25 : Nat)), ((0 : Nat), (9 : Nat), (15 : Nat), (15 : Nat))]) (zR 9 2 12) (zP [.ref (S.A 0), .int x, .ref oa] g A (zTH g A (va_up T oa (some (.inl (zJ g 1 f0)))))) (va_Qi (fun k (u : zS × zT × (Nat → Int64)) => k = (m_examine X x).2 0 0 ∧ u.2.1 oa = none ∧ ((k = 0 ∧ zSy u.1 g (m_examine X x).2 u.2.1 ∧ u.2.2 0 = (m_examine X x).1.toInt64 ∧ u.1 = S) ∨ (¬ k = 0 ∧ u.1 = S ∧ zSy S g X u.2.1))) (fun u t => zTH g A (va_up u.2.1 oa (some (.inl (zJ g 1 u.2.2)))) t.heap) A) (vx_X (fun (_ : Unit) => False) (fun _ _ _ => True) A) 2 12 A := by
  refine zb_wmet (by decide) (Nat.le_of_ble_eq_true rfl) ?_
  intro p e s m args below meth c ls hx hb hr hml hown hts hlocks hnm hK hT ha_ hl htab
  have hown : s.vm.findClass RX0 = some m.cls := hown
  have hS : va_S A s.heap s.heap [] := va_S.rf
  have hl : lv_has ls 4 [(0, .ref (S.A 0)), (1, .int x), (2, .ref oa)] := hl
  refine lv_aload_n hx hb dX0_examine_0 rfl (lv_at hl 2 rfl) ?_
  refine lv_iconst (v := 0) hx hb dX0_examine_1 (by decide) ?_
  refine lv_aload_n hx hb dX0_examine_2 rfl (lv_at hl 0 rfl) ?_
  refine lv_iload_n hx hb dX0_examine_3 rfl (lv_at hl 1 rfl) ?_
  have hlt0 : True := trivial
  refine vx_calli (zxr_V (As := [.int x]) (rest := [.int 0, .ref oa]) ⟨hx, hb, hml, hown, hts⟩ (ct_X1_examine l hl0 g (fun q => A q ∧ q ≠ oa) S X T hY hI hz12 x) zn_X1_examine (lw_V q806 q807 q808 q39 q809) rfl (by decide) (by decide) hK (fun q h => h.1) hS (hT.split hoa) (zt_recv hK.1 (hT.split hoa) hY.w rfl) rfl hl.1 (Nat.le_of_ble_eq_true rfl) dX0_examine_4 ⟨by show _ + 2 ≤ 2; omega, by show _ + 12 ≤ 12; omega⟩) hS (fun _ _ h => h.1) (fun _ h => h.1) (fun _ _ h => h.1) (fun E ce q9 _ t H1 locs1 ht _ _ hB hz hkk hS1 h1 h2 h3 => ?_) (fun r u t H1 locs1 ht _ hp hB hz hkk hS1 => ?_)
  · obtain ⟨hT1, -⟩ := zTH.join hT (by rw [← ht]; exact hB.2) (hkk oa (hT.lt (va_up_self _ _ _)) (fun z => z.2 rfl))
    rcases hB.1 with ⟨rfl, hcd⟩ | ⟨rfl, hcd⟩
    · refine vx_catch (pc := 4) hown [] ⟨0, 9, 12, 25⟩ [⟨0, 9, 15, 15⟩] (by rw [htab]; rfl) (fun z hz => by cases hz) (by decide) (by decide) (hts _ q477) (va_Nw.use (A := args) rfl (hK.2.1.2.2.1 _ _ q524)) h1 h2 h3 ?_
      have hT := hT1
      have hS := hS1
      refine lv_astore_n (lv' := [(3, .ref q9), (0, .ref (S.A 0)), (1, .int x), (2, .ref oa)]) hx hb dX0_examine_12 rfl hl (by decide) rfl (fun ls hl => ?_)
      refine lv_iconst (v := 1) hx hb dX0_examine_13 (by decide) ?_
      exact vx_ret (ze_i hx hb hr hlocks hS dX0_examine_14 (by show _ ≤ 2; omega) (by show _ ≤ 12; omega) (S, T, f0) ⟨hcd.symm, hoa, Or.inr ⟨by decide, rfl, hY⟩⟩ hT)
    · refine vx_catch (pc := 4) hown [⟨0, 9, 12, 25⟩] ⟨0, 9, 15, 15⟩ [] (by rw [htab]; rfl) (fun z hz => by simp only [List.mem_cons, List.not_mem_nil, or_false] at hz; rcases hz with rfl; exact Or.inr ⟨by decide, _, hts _ q477, hK.2.1.2.2.2.2.2.2.2.2.2.2.1⟩) (by decide) (by decide) (hts _ q257) (va_Nw.use (A := args) rfl (hK.2.1.2.2.1 _ _ q343)) h1 h2 h3 ?_
      have hT := hT1
      have hS := hS1
      refine lv_astore_n (lv' := [(3, .ref q9), (0, .ref (S.A 0)), (1, .int x), (2, .ref oa)]) hx hb dX0_examine_15 rfl hl (by decide) rfl (fun ls hl => ?_)
      refine lv_iconst (v := 2) hx hb dX0_examine_16 (by decide) ?_
      exact vx_ret (ze_i hx hb hr hlocks hS dX0_examine_17 (by show _ ≤ 2; omega) (by show _ ≤ 12; omega) (S, T, f0) ⟨hcd.symm, hoa, Or.inr ⟨by decide, rfl, hY⟩⟩ hT)
  · obtain ⟨⟨rfl, hc0⟩, hY1⟩ := hp
    obtain ⟨hT, hn1⟩ := zTH.join hT (by rw [← ht]; exact hB) (hkk oa (hT.lt (va_up_self _ _ _)) (fun z => z.2 rfl))
    have hS := hS1
    refine lv_i2l (v := ((m_examine X x).1).toInt64) hx hb dX0_examine_7 rfl ?_
    refine zt_lst (k := 0) hx hb hK.1 hT hS (va_up_self _ _ _) (by decide) (by decide) dX0_examine_8 (fun H locs hT hS => ?_)
    rw [zup_up] at hT
    refine lv_goto (tgt := 18) hx hb dX0_examine_9 (by decide) ?_
    refine lv_iconst (v := 0) hx hb dX0_examine_18 (by decide) ?_
    exact vx_ret (ze_i hx hb hr hlocks hS dX0_examine_19 (by show _ ≤ 2; omega) (by show _ ≤ 12; omega) (S, u, va_up f0 0 (((m_examine X x).1).toInt64)) ⟨hc0.symm, hn1, Or.inl ⟨rfl, hY1, va_up_self f0 0 _, rfl⟩⟩ hT)
theorem zn_X0_waive : zN yX0_waive 3 := by decide +kernel
set_option maxHeartbeats 4000000 in
theorem ct_X0_waive (l : Launch) (hl0 : l.stackTraces = false) (g : zG) (A : Nat → Prop) (S : zS) (X : zX) (T : zT) (hY : zSy S g X T) (hI : MH X) (h21 : ∀ k, ¬ X 21 k < 0) (h8 : ∀ p, ¬ X 8 p < 0) (x km : Int32) : vx_Met l yX0_waive (wsW_ yX0_waive cX0_waive 4 (some .int) [((0 : Nat), (6 : Nat), (9 : Nat), (25 : Nat)), ((0 : Nat), (6 : Nat), (12 : Nat), (13 : Nat)), ((0 : Nat), (6 : Nat), (15 : Nat), (15 : Nat))]) (zR 9 3 18) (zP [.ref (S.A 0), .int x, .int km] g A (zTH g A T)) (va_Qi (fun k (u : zS × zT) => k = (m_waive X x km) 0 0 ∧ ((k = 0 ∧ zSy u.1 g (m_waive X x km) u.2 ∧ u.1 = S) ∨ (¬ k = 0 ∧ u.1 = S ∧ zSy S g X u.2))) (fun u t => zTH g A u.2 t.heap) A) (vx_X (fun (_ : Unit) => False) (fun _ _ _ => True) A) 3 18 A := by
  refine zb_wmet (by decide) (Nat.le_of_ble_eq_true rfl) ?_
  intro p e s m args below meth c ls hx hb hr hml hown hts hlocks hnm hK hT ha_ hl htab
  have hown : s.vm.findClass RX0 = some m.cls := hown
  have hS : va_S A s.heap s.heap [] := va_S.rf
  have hl : lv_has ls 4 [(0, .ref (S.A 0)), (1, .int x), (2, .int km)] := hl
  refine lv_aload_n hx hb dX0_waive_0 rfl (lv_at hl 0 rfl) ?_
  refine lv_iload_n hx hb dX0_waive_1 rfl (lv_at hl 1 rfl) ?_
  refine lv_iload_n hx hb dX0_waive_2 rfl (lv_at hl 2 rfl) ?_
  have hlt0 : True := trivial
  refine vx_callv (zxr_V (As := [.int x, .int km]) (rest := []) ⟨hx, hb, hml, hown, hts⟩ (ct_X1_waive l hl0 g A S X T hY hI h21 h8 x km) zn_X1_waive (lw_V q813 q814 q815 q39 q816) rfl (by decide) (by decide) hK (fun _ h => h) hS hT (zt_recv hK.1 hT hY.w rfl) rfl hl.1 (Nat.le_of_ble_eq_true rfl) dX0_waive_3 ⟨by show _ + 3 ≤ 3; omega, by show _ + 18 ≤ 18; omega⟩) hS (fun _ _ h => h) (fun _ h => h) (fun _ _ h => h) (fun E ce q9 _ t H1 locs1 ht _ _ hB hz hkk hS1 h1 h2 h3 => ?_) (fun  u t H1 locs1 ht _ hp hB hz hkk hS1 => ?_)
  · have hT1 : zTH g A T H1 := by rw [← ht]; exact hB.2
    rcases hB.1 with ⟨rfl, hcd⟩ | ⟨rfl, hcd⟩ | ⟨rfl, hcd⟩
    · refine vx_catch (pc := 3) hown [] ⟨0, 6, 9, 25⟩ [⟨0, 6, 12, 13⟩, ⟨0, 6, 15, 15⟩] (by rw [htab]; rfl) (fun z hz => by cases hz) (by decide) (by decide) (hts _ q477) (va_Nw.use (A := args) rfl (hK.2.1.2.2.1 _ _ q524)) h1 h2 h3 ?_
      have hT := hT1
      have hS := hS1
      refine lv_astore_n (lv' := [(3, .ref q9), (0, .ref (S.A 0)), (1, .int x), (2, .int km)]) hx hb dX0_waive_9 rfl hl (by decide) rfl (fun ls hl => ?_)
      refine lv_iconst (v := 1) hx hb dX0_waive_10 (by decide) ?_
      exact vx_ret (ze_i hx hb hr hlocks hS dX0_waive_11 (by show _ ≤ 3; omega) (by show _ ≤ 18; omega) (S, T) ⟨hcd.symm, Or.inr ⟨by decide, rfl, hY⟩⟩ hT)
    · refine vx_catch (pc := 3) hown [⟨0, 6, 9, 25⟩] ⟨0, 6, 12, 13⟩ [⟨0, 6, 15, 15⟩] (by rw [htab]; rfl) (fun z hz => by simp only [List.mem_cons, List.not_mem_nil, or_false] at hz; rcases hz with rfl; exact Or.inr ⟨by decide, _, hts _ q477, hK.2.1.2.2.2.2.2.2.2.2.2.1⟩) (by decide) (by decide) (hts _ q256) (va_Nw.use (A := args) rfl (hK.2.1.2.2.1 _ _ q270)) h1 h2 h3 ?_
      have hT := hT1
      have hS := hS1
      refine lv_astore_n (lv' := [(3, .ref q9), (0, .ref (S.A 0)), (1, .int x), (2, .int km)]) hx hb dX0_waive_12 rfl hl (by decide) rfl (fun ls hl => ?_)
      refine lv_iconst (v := 2) hx hb dX0_waive_13 (by decide) ?_
      exact vx_ret (ze_i hx hb hr hlocks hS dX0_waive_14 (by show _ ≤ 3; omega) (by show _ ≤ 18; omega) (S, T) ⟨hcd.symm, Or.inr ⟨by decide, rfl, hY⟩⟩ hT)
    · refine vx_catch (pc := 3) hown [⟨0, 6, 9, 25⟩, ⟨0, 6, 12, 13⟩] ⟨0, 6, 15, 15⟩ [] (by rw [htab]; rfl) (fun z hz => by simp only [List.mem_cons, List.not_mem_nil, or_false] at hz; rcases hz with rfl | rfl <;> first | exact Or.inr ⟨by decide, _, hts _ q477, hK.2.1.2.2.2.2.2.2.2.2.2.2.1⟩ | exact Or.inr ⟨by decide, _, hts _ q256, hK.2.1.2.2.2.2.2.2.2.2.2.2.2⟩) (by decide) (by decide) (hts _ q257) (va_Nw.use (A := args) rfl (hK.2.1.2.2.1 _ _ q343)) h1 h2 h3 ?_
      have hT := hT1
      have hS := hS1
      refine lv_astore_n (lv' := [(3, .ref q9), (0, .ref (S.A 0)), (1, .int x), (2, .int km)]) hx hb dX0_waive_15 rfl hl (by decide) rfl (fun ls hl => ?_)
      refine lv_iconst (v := 3) hx hb dX0_waive_16 (by decide) ?_
      exact vx_ret (ze_i hx hb hr hlocks hS dX0_waive_17 (by show _ ≤ 3; omega) (by show _ ≤ 18; omega) (S, T) ⟨hcd.symm, Or.inr ⟨by decide, rfl, hY⟩⟩ hT)
  · obtain ⟨hc0, hY1⟩ := hp
    have hT : zTH g A u H1 := by rw [← ht]; exact hB
    have hS := hS1
    refine lv_goto (tgt := 18) hx hb dX0_waive_6 (by decide) ?_
    refine lv_iconst (v := 0) hx hb dX0_waive_18 (by decide) ?_
    exact vx_ret (ze_i hx hb hr hlocks hS dX0_waive_19 (by show _ ≤ 3; omega) (by show _ ≤ 18; omega) (S, u) ⟨hc0.symm, Or.inl ⟨rfl, hY1, rfl⟩⟩ hT)
theorem zn_X0_flaw : zN yX0_flaw 4 := by decide +kernel
set_option maxHeartbeats 4000000 in
theorem ct_X0_flaw (l : Launch) (hl0 : l.stackTraces = false) (g : zG) (A : Nat → Prop) (S : zS) (X : zX) (T : zT) (hY : zSy S g X T) (oa : Nat) (f0 : Nat → Int64) (hoa : T oa = none) (hI : MH X) (x sz : Int32) : vx_Met l yX0_flaw (wsW_ yX0_flaw cX0_flaw 5 (some .int) [((0 : Nat), (10 : Nat), (13 : Nat), (25 : Nat)), ((0 : Nat), (10 : Nat), (17 : Nat), (13 : Nat))]) (zR 9 2 12) (zP [.ref (S.A 0), .int x, .int sz, .ref oa] g A (zTH g A (va_up T oa (some (.inl (zJ g 1 f0)))))) (va_Qi (fun k (u : zS × zT × (Nat → Int64)) => k = (m_flaw X x sz).2 0 0 ∧ u.2.1 oa = none ∧ ((k = 0 ∧ zSy u.1 g (m_flaw X x sz).2 u.2.1 ∧ u.2.2 0 = (m_flaw X x sz).1.toInt64 ∧ u.1 = S) ∨ (¬ k = 0 ∧ u.1 = S ∧ zSy S g X u.2.1))) (fun u t => zTH g A (va_up u.2.1 oa (some (.inl (zJ g 1 u.2.2)))) t.heap) A) (vx_X (fun (_ : Unit) => False) (fun _ _ _ => True) A) 2 12 A := by
  refine zb_wmet (by decide) (Nat.le_of_ble_eq_true rfl) ?_
  intro p e s m args below meth c ls hx hb hr hml hown hts hlocks hnm hK hT ha_ hl htab
  have hown : s.vm.findClass RX0 = some m.cls := hown
  have hS : va_S A s.heap s.heap [] := va_S.rf
  have hl : lv_has ls 5 [(0, .ref (S.A 0)), (1, .int x), (2, .int sz), (3, .ref oa)] := hl
  refine lv_aload_n hx hb dX0_flaw_0 rfl (lv_at hl 3 rfl) ?_
  refine lv_iconst (v := 0) hx hb dX0_flaw_1 (by decide) ?_
  refine lv_aload_n hx hb dX0_flaw_2 rfl (lv_at hl 0 rfl) ?_
  refine lv_iload_n hx hb dX0_flaw_3 rfl (lv_at hl 1 rfl) ?_
  refine lv_iload_n hx hb dX0_flaw_4 rfl (lv_at hl 2 rfl) ?_
  have hlt0 : True := trivial
  refine vx_calli (zxr_V (As := [.int x, .int sz]) (rest := [.int 0, .ref oa]) ⟨hx, hb, hml, hown, hts⟩ (ct_X1_flaw l hl0 g (fun q => A q ∧ q ≠ oa) S X T hY hI x sz) zn_X1_flaw (lw_V q820 q821 q822 q39 q823) rfl (by decide) (by decide) hK (fun q h => h.1) hS (hT.split hoa) (zt_recv hK.1 (hT.split hoa) hY.w rfl) rfl hl.1 (Nat.le_of_ble_eq_true rfl) dX0_flaw_5 ⟨by show _ + 2 ≤ 2; omega, by show _ + 12 ≤ 12; omega⟩) hS (fun _ _ h => h.1) (fun _ h => h.1) (fun _ _ h => h.1) (fun E ce q9 _ t H1 locs1 ht _ _ hB hz hkk hS1 h1 h2 h3 => ?_) (fun r u t H1 locs1 ht _ hp hB hz hkk hS1 => ?_)
  · obtain ⟨hT1, -⟩ := zTH.join hT (by rw [← ht]; exact hB.2) (hkk oa (hT.lt (va_up_self _ _ _)) (fun z => z.2 rfl))
    rcases hB.1 with ⟨rfl, hcd⟩ | ⟨rfl, hcd⟩
    · refine vx_catch (pc := 5) hown [] ⟨0, 10, 13, 25⟩ [⟨0, 10, 17, 13⟩] (by rw [htab]; rfl) (fun z hz => by cases hz) (by decide) (by decide) (hts _ q477) (va_Nw.use (A := args) rfl (hK.2.1.2.2.1 _ _ q524)) h1 h2 h3 ?_
      have hT := hT1
      have hS := hS1
      refine lv_astore (lv' := [(4, .ref q9), (0, .ref (S.A 0)), (1, .int x), (2, .int sz), (3, .ref oa)]) hx hb dX0_flaw_13 hl (by decide) rfl (fun ls hl => ?_)
      refine lv_iconst (v := 1) hx hb dX0_flaw_15 (by decide) ?_
      exact vx_ret (ze_i hx hb hr hlocks hS dX0_flaw_16 (by show _ ≤ 2; omega) (by show _ ≤ 12; omega) (S, T, f0) ⟨hcd.symm, hoa, Or.inr ⟨by decide, rfl, hY⟩⟩ hT)
    · refine vx_catch (pc := 5) hown [⟨0, 10, 13, 25⟩] ⟨0, 10, 17, 13⟩ [] (by rw [htab]; rfl) (fun z hz => by simp only [List.mem_cons, List.not_mem_nil, or_false] at hz; rcases hz with rfl; exact Or.inr ⟨by decide, _, hts _ q477, hK.2.1.2.2.2.2.2.2.2.2.2.1⟩) (by decide) (by decide) (hts _ q256) (va_Nw.use (A := args) rfl (hK.2.1.2.2.1 _ _ q270)) h1 h2 h3 ?_
      have hT := hT1
      have hS := hS1
      refine lv_astore (lv' := [(4, .ref q9), (0, .ref (S.A 0)), (1, .int x), (2, .int sz), (3, .ref oa)]) hx hb dX0_flaw_17 hl (by decide) rfl (fun ls hl => ?_)
      refine lv_iconst (v := 2) hx hb dX0_flaw_19 (by decide) ?_
      exact vx_ret (ze_i hx hb hr hlocks hS dX0_flaw_20 (by show _ ≤ 2; omega) (by show _ ≤ 12; omega) (S, T, f0) ⟨hcd.symm, hoa, Or.inr ⟨by decide, rfl, hY⟩⟩ hT)
  · obtain ⟨⟨rfl, hc0⟩, hY1⟩ := hp
    obtain ⟨hT, hn1⟩ := zTH.join hT (by rw [← ht]; exact hB) (hkk oa (hT.lt (va_up_self _ _ _)) (fun z => z.2 rfl))
    have hS := hS1
    refine lv_i2l (v := ((m_flaw X x sz).1).toInt64) hx hb dX0_flaw_8 rfl ?_
    refine zt_lst (k := 0) hx hb hK.1 hT hS (va_up_self _ _ _) (by decide) (by decide) dX0_flaw_9 (fun H locs hT hS => ?_)
    rw [zup_up] at hT
    refine lv_goto (tgt := 21) hx hb dX0_flaw_10 (by decide) ?_
    refine lv_iconst (v := 0) hx hb dX0_flaw_21 (by decide) ?_
    exact vx_ret (ze_i hx hb hr hlocks hS dX0_flaw_22 (by show _ ≤ 2; omega) (by show _ ≤ 12; omega) (S, u, va_up f0 0 (((m_flaw X x sz).1).toInt64)) ⟨hc0.symm, hn1, Or.inl ⟨rfl, hY1, va_up_self f0 0 _, rfl⟩⟩ hT)
theorem zn_X0_look : zN yX0_look 4 := by decide +kernel
set_option maxHeartbeats 4000000 in
theorem ct_X0_look (l : Launch) (hl0 : l.stackTraces = false) (g : zG) (A : Nat → Prop) (S : zS) (X : zX) (T : zT) (hY : zSy S g X T) (oa : Nat) (f0 : Nat → Int64) (hoa : T oa = none) (hI : MH X) (hz12 : ∀ p, X 12 p = 0 ∨ X 12 p = 1) (hz10 : ∀ p, X 10 p = 0 ∨ X 10 p = 1) (x : Int32) (b : Bool) : vx_Met l yX0_look (wsW_ yX0_look cX0_look 5 (some .int) [((0 : Nat), (10 : Nat), (13 : Nat), (25 : Nat)), ((0 : Nat), (10 : Nat), (17 : Nat), (15 : Nat))]) (zR 9 2 12) (zP [.ref (S.A 0), .int x, .int (zb b), .ref oa] g A (zTH g A (va_up T oa (some (.inl (zJ g 1 f0)))))) (va_Qi (fun k (u : zS × zT × (Nat → Int64)) => k = (m_look X x b).2 0 0 ∧ u.2.1 oa = none ∧ ((k = 0 ∧ zSy u.1 g (m_look X x b).2 u.2.1 ∧ u.2.2 0 = (m_look X x b).1.toInt64 ∧ u.1 = S) ∨ (¬ k = 0 ∧ u.1 = S ∧ zSy S g X u.2.1))) (fun u t => zTH g A (va_up u.2.1 oa (some (.inl (zJ g 1 u.2.2)))) t.heap) A) (vx_X (fun (_ : Unit) => False) (fun _ _ _ => True) A) 2 12 A := by
  refine zb_wmet (by decide) (Nat.le_of_ble_eq_true rfl) ?_
  intro p e s m args below meth c ls hx hb hr hml hown hts hlocks hnm hK hT ha_ hl htab
  have hown : s.vm.findClass RX0 = some m.cls := hown
  have hS : va_S A s.heap s.heap [] := va_S.rf
  have hl : lv_has ls 5 [(0, .ref (S.A 0)), (1, .int x), (2, .int (zb b)), (3, .ref oa)] := hl
  refine lv_aload_n hx hb dX0_look_0 rfl (lv_at hl 3 rfl) ?_
  refine lv_iconst (v := 0) hx hb dX0_look_1 (by decide) ?_
  refine lv_aload_n hx hb dX0_look_2 rfl (lv_at hl 0 rfl) ?_
  refine lv_iload_n hx hb dX0_look_3 rfl (lv_at hl 1 rfl) ?_
  refine lv_iload_n hx hb dX0_look_4 rfl (lv_at hl 2 rfl) ?_
  have hlt0 : True := trivial
  refine vx_calli (zxr_V (As := [.int x, .int (zb b)]) (rest := [.int 0, .ref oa]) ⟨hx, hb, hml, hown, hts⟩ (ct_X1_look l hl0 g (fun q => A q ∧ q ≠ oa) S X T hY hI hz12 hz10 x b) zn_X1_look (lw_V q827 q828 q829 q39 q830) rfl (by decide) (by decide) hK (fun q h => h.1) hS (hT.split hoa) (zt_recv hK.1 (hT.split hoa) hY.w rfl) rfl hl.1 (Nat.le_of_ble_eq_true rfl) dX0_look_5 ⟨by show _ + 2 ≤ 2; omega, by show _ + 12 ≤ 12; omega⟩) hS (fun _ _ h => h.1) (fun _ h => h.1) (fun _ _ h => h.1) (fun E ce q9 _ t H1 locs1 ht _ _ hB hz hkk hS1 h1 h2 h3 => ?_) (fun r u t H1 locs1 ht _ hp hB hz hkk hS1 => ?_)
  · obtain ⟨hT1, -⟩ := zTH.join hT (by rw [← ht]; exact hB.2) (hkk oa (hT.lt (va_up_self _ _ _)) (fun z => z.2 rfl))
    rcases hB.1 with ⟨rfl, hcd⟩ | ⟨rfl, hcd⟩
    · refine vx_catch (pc := 5) hown [] ⟨0, 10, 13, 25⟩ [⟨0, 10, 17, 15⟩] (by rw [htab]; rfl) (fun z hz => by cases hz) (by decide) (by decide) (hts _ q477) (va_Nw.use (A := args) rfl (hK.2.1.2.2.1 _ _ q524)) h1 h2 h3 ?_
      have hT := hT1
      have hS := hS1
      refine lv_astore (lv' := [(4, .ref q9), (0, .ref (S.A 0)), (1, .int x), (2, .int (zb b)), (3, .ref oa)]) hx hb dX0_look_13 hl (by decide) rfl (fun ls hl => ?_)
      refine lv_iconst (v := 1) hx hb dX0_look_15 (by decide) ?_
      exact vx_ret (ze_i hx hb hr hlocks hS dX0_look_16 (by show _ ≤ 2; omega) (by show _ ≤ 12; omega) (S, T, f0) ⟨hcd.symm, hoa, Or.inr ⟨by decide, rfl, hY⟩⟩ hT)
    · refine vx_catch (pc := 5) hown [⟨0, 10, 13, 25⟩] ⟨0, 10, 17, 15⟩ [] (by rw [htab]; rfl) (fun z hz => by simp only [List.mem_cons, List.not_mem_nil, or_false] at hz; rcases hz with rfl; exact Or.inr ⟨by decide, _, hts _ q477, hK.2.1.2.2.2.2.2.2.2.2.2.2.1⟩) (by decide) (by decide) (hts _ q257) (va_Nw.use (A := args) rfl (hK.2.1.2.2.1 _ _ q343)) h1 h2 h3 ?_
      have hT := hT1
      have hS := hS1
      refine lv_astore (lv' := [(4, .ref q9), (0, .ref (S.A 0)), (1, .int x), (2, .int (zb b)), (3, .ref oa)]) hx hb dX0_look_17 hl (by decide) rfl (fun ls hl => ?_)
      refine lv_iconst (v := 2) hx hb dX0_look_19 (by decide) ?_
      exact vx_ret (ze_i hx hb hr hlocks hS dX0_look_20 (by show _ ≤ 2; omega) (by show _ ≤ 12; omega) (S, T, f0) ⟨hcd.symm, hoa, Or.inr ⟨by decide, rfl, hY⟩⟩ hT)
  · obtain ⟨⟨rfl, hc0⟩, hY1⟩ := hp
    obtain ⟨hT, hn1⟩ := zTH.join hT (by rw [← ht]; exact hB) (hkk oa (hT.lt (va_up_self _ _ _)) (fun z => z.2 rfl))
    have hS := hS1
    refine lv_i2l (v := ((m_look X x b).1).toInt64) hx hb dX0_look_8 rfl ?_
    refine zt_lst (k := 0) hx hb hK.1 hT hS (va_up_self _ _ _) (by decide) (by decide) dX0_look_9 (fun H locs hT hS => ?_)
    rw [zup_up] at hT
    refine lv_goto (tgt := 21) hx hb dX0_look_10 (by decide) ?_
    refine lv_iconst (v := 0) hx hb dX0_look_21 (by decide) ?_
    exact vx_ret (ze_i hx hb hr hlocks hS dX0_look_22 (by show _ ≤ 2; omega) (by show _ ≤ 12; omega) (S, u, va_up f0 0 (((m_look X x b).1).toInt64)) ⟨hc0.symm, hn1, Or.inl ⟨rfl, hY1, va_up_self f0 0 _, rfl⟩⟩ hT)
theorem zn_X0_clear : zN yX0_clear 3 := by decide +kernel
set_option maxHeartbeats 4000000 in
theorem ct_X0_clear (l : Launch) (hl0 : l.stackTraces = false) (g : zG) (A : Nat → Prop) (S : zS) (X : zX) (T : zT) (hY : zSy S g X T) (oa : Nat) (f0 : Nat → Int64) (hoa : T oa = none) (hI : MH X) (hz12 : ∀ p, X 12 p = 0 ∨ X 12 p = 1) (x : Int32) : vx_Met l yX0_clear (wsW_ yX0_clear cX0_clear 4 (some .int) [((0 : Nat), (9 : Nat), (12 : Nat), (25 : Nat)), ((0 : Nat), (9 : Nat), (15 : Nat), (15 : Nat))]) (zR 9 2 12) (zP [.ref (S.A 0), .int x, .ref oa] g A (zTH g A (va_up T oa (some (.inl (zJ g 1 f0)))))) (va_Qi (fun k (u : zS × zT × (Nat → Int64)) => k = (m_clear X x).2 0 0 ∧ u.2.1 oa = none ∧ ((k = 0 ∧ zSy u.1 g (m_clear X x).2 u.2.1 ∧ u.2.2 0 = (m_clear X x).1.toInt64 ∧ u.1 = S) ∨ (¬ k = 0 ∧ u.1 = S ∧ zSy S g X u.2.1))) (fun u t => zTH g A (va_up u.2.1 oa (some (.inl (zJ g 1 u.2.2)))) t.heap) A) (vx_X (fun (_ : Unit) => False) (fun _ _ _ => True) A) 2 12 A := by
  refine zb_wmet (by decide) (Nat.le_of_ble_eq_true rfl) ?_
  intro p e s m args below meth c ls hx hb hr hml hown hts hlocks hnm hK hT ha_ hl htab
  have hown : s.vm.findClass RX0 = some m.cls := hown
  have hS : va_S A s.heap s.heap [] := va_S.rf
  have hl : lv_has ls 4 [(0, .ref (S.A 0)), (1, .int x), (2, .ref oa)] := hl
  refine lv_aload_n hx hb dX0_clear_0 rfl (lv_at hl 2 rfl) ?_
  refine lv_iconst (v := 0) hx hb dX0_clear_1 (by decide) ?_
  refine lv_aload_n hx hb dX0_clear_2 rfl (lv_at hl 0 rfl) ?_
  refine lv_iload_n hx hb dX0_clear_3 rfl (lv_at hl 1 rfl) ?_
  have hlt0 : True := trivial
  refine vx_calli (zxr_V (As := [.int x]) (rest := [.int 0, .ref oa]) ⟨hx, hb, hml, hown, hts⟩ (ct_X1_clear l hl0 g (fun q => A q ∧ q ≠ oa) S X T hY hI hz12 x) zn_X1_clear (lw_V q835 q836 q837 q39 q838) rfl (by decide) (by decide) hK (fun q h => h.1) hS (hT.split hoa) (zt_recv hK.1 (hT.split hoa) hY.w rfl) rfl hl.1 (Nat.le_of_ble_eq_true rfl) dX0_clear_4 ⟨by show _ + 2 ≤ 2; omega, by show _ + 12 ≤ 12; omega⟩) hS (fun _ _ h => h.1) (fun _ h => h.1) (fun _ _ h => h.1) (fun E ce q9 _ t H1 locs1 ht _ _ hB hz hkk hS1 h1 h2 h3 => ?_) (fun r u t H1 locs1 ht _ hp hB hz hkk hS1 => ?_)
  · obtain ⟨hT1, -⟩ := zTH.join hT (by rw [← ht]; exact hB.2) (hkk oa (hT.lt (va_up_self _ _ _)) (fun z => z.2 rfl))
    rcases hB.1 with ⟨rfl, hcd⟩ | ⟨rfl, hcd⟩
    · refine vx_catch (pc := 4) hown [] ⟨0, 9, 12, 25⟩ [⟨0, 9, 15, 15⟩] (by rw [htab]; rfl) (fun z hz => by cases hz) (by decide) (by decide) (hts _ q477) (va_Nw.use (A := args) rfl (hK.2.1.2.2.1 _ _ q524)) h1 h2 h3 ?_
      have hT := hT1
      have hS := hS1
      refine lv_astore_n (lv' := [(3, .ref q9), (0, .ref (S.A 0)), (1, .int x), (2, .ref oa)]) hx hb dX0_clear_12 rfl hl (by decide) rfl (fun ls hl => ?_)
      refine lv_iconst (v := 1) hx hb dX0_clear_13 (by decide) ?_
      exact vx_ret (ze_i hx hb hr hlocks hS dX0_clear_14 (by show _ ≤ 2; omega) (by show _ ≤ 12; omega) (S, T, f0) ⟨hcd.symm, hoa, Or.inr ⟨by decide, rfl, hY⟩⟩ hT)
    · refine vx_catch (pc := 4) hown [⟨0, 9, 12, 25⟩] ⟨0, 9, 15, 15⟩ [] (by rw [htab]; rfl) (fun z hz => by simp only [List.mem_cons, List.not_mem_nil, or_false] at hz; rcases hz with rfl; exact Or.inr ⟨by decide, _, hts _ q477, hK.2.1.2.2.2.2.2.2.2.2.2.2.1⟩) (by decide) (by decide) (hts _ q257) (va_Nw.use (A := args) rfl (hK.2.1.2.2.1 _ _ q343)) h1 h2 h3 ?_
      have hT := hT1
      have hS := hS1
      refine lv_astore_n (lv' := [(3, .ref q9), (0, .ref (S.A 0)), (1, .int x), (2, .ref oa)]) hx hb dX0_clear_15 rfl hl (by decide) rfl (fun ls hl => ?_)
      refine lv_iconst (v := 2) hx hb dX0_clear_16 (by decide) ?_
      exact vx_ret (ze_i hx hb hr hlocks hS dX0_clear_17 (by show _ ≤ 2; omega) (by show _ ≤ 12; omega) (S, T, f0) ⟨hcd.symm, hoa, Or.inr ⟨by decide, rfl, hY⟩⟩ hT)
  · obtain ⟨⟨rfl, hc0⟩, hY1⟩ := hp
    obtain ⟨hT, hn1⟩ := zTH.join hT (by rw [← ht]; exact hB) (hkk oa (hT.lt (va_up_self _ _ _)) (fun z => z.2 rfl))
    have hS := hS1
    refine lv_i2l (v := ((m_clear X x).1).toInt64) hx hb dX0_clear_7 rfl ?_
    refine zt_lst (k := 0) hx hb hK.1 hT hS (va_up_self _ _ _) (by decide) (by decide) dX0_clear_8 (fun H locs hT hS => ?_)
    rw [zup_up] at hT
    refine lv_goto (tgt := 18) hx hb dX0_clear_9 (by decide) ?_
    refine lv_iconst (v := 0) hx hb dX0_clear_18 (by decide) ?_
    exact vx_ret (ze_i hx hb hr hlocks hS dX0_clear_19 (by show _ ≤ 2; omega) (by show _ ≤ 12; omega) (S, u, va_up f0 0 (((m_clear X x).1).toInt64)) ⟨hc0.symm, hn1, Or.inl ⟨rfl, hY1, va_up_self f0 0 _, rfl⟩⟩ hT)
theorem zn_X0_recall : zN yX0_recall 3 := by decide +kernel
set_option maxHeartbeats 4000000 in
theorem ct_X0_recall (l : Launch) (hl0 : l.stackTraces = false) (g : zG) (A : Nat → Prop) (S : zS) (X : zX) (T : zT) (hY : zSy S g X T) (oa : Nat) (f0 : Nat → Int64) (hoa : T oa = none) (hI : MH X) (mt : Int32) : vx_Met l yX0_recall (wsW_ yX0_recall cX0_recall 4 (some .int) [((0 : Nat), (9 : Nat), (12 : Nat), (13 : Nat))]) (zR 8 2 10) (zP [.ref (S.A 0), .int mt, .ref oa] g A (zTH g A (va_up T oa (some (.inl (zJ g 1 f0)))))) (va_Qi (fun k (u : zS × zT × (Nat → Int64)) => k = (m_recall X mt).2 0 0 ∧ u.2.1 oa = none ∧ ((k = 0 ∧ zSy u.1 g (m_recall X mt).2 u.2.1 ∧ u.2.2 0 = (m_recall X mt).1.toInt64 ∧ u.1 = S) ∨ (¬ k = 0 ∧ u.1 = S ∧ zSy S g X u.2.1))) (fun u t => zTH g A (va_up u.2.1 oa (some (.inl (zJ g 1 u.2.2)))) t.heap) A) (vx_X (fun (_ : Unit) => False) (fun _ _ _ => True) A) 2 10 A := by
  refine zb_wmet (by decide) (Nat.le_of_ble_eq_true rfl) ?_
  intro p e s m args below meth c ls hx hb hr hml hown hts hlocks hnm hK hT ha_ hl htab
  have hown : s.vm.findClass RX0 = some m.cls := hown
  have hS : va_S A s.heap s.heap [] := va_S.rf
  have hl : lv_has ls 4 [(0, .ref (S.A 0)), (1, .int mt), (2, .ref oa)] := hl
  refine lv_aload_n hx hb dX0_recall_0 rfl (lv_at hl 2 rfl) ?_
  refine lv_iconst (v := 0) hx hb dX0_recall_1 (by decide) ?_
  refine lv_aload_n hx hb dX0_recall_2 rfl (lv_at hl 0 rfl) ?_
  refine lv_iload_n hx hb dX0_recall_3 rfl (lv_at hl 1 rfl) ?_
  have hlt0 : True := trivial
  refine vx_calli (zxr_V (As := [.int mt]) (rest := [.int 0, .ref oa]) ⟨hx, hb, hml, hown, hts⟩ (ct_X1_recall l hl0 g (fun q => A q ∧ q ≠ oa) S X T hY hI mt) zn_X1_recall (lw_V q842 q843 q844 q39 q845) rfl (by decide) (by decide) hK (fun q h => h.1) hS (hT.split hoa) (zt_recv hK.1 (hT.split hoa) hY.w rfl) rfl hl.1 (Nat.le_of_ble_eq_true rfl) dX0_recall_4 ⟨by show _ + 2 ≤ 2; omega, by show _ + 10 ≤ 10; omega⟩) hS (fun _ _ h => h.1) (fun _ h => h.1) (fun _ _ h => h.1) (fun E ce q9 _ t H1 locs1 ht _ _ hB hz hkk hS1 h1 h2 h3 => ?_) (fun r u t H1 locs1 ht _ hp hB hz hkk hS1 => ?_)
  · obtain ⟨hT1, -⟩ := zTH.join hT (by rw [← ht]; exact hB.2) (hkk oa (hT.lt (va_up_self _ _ _)) (fun z => z.2 rfl))
    obtain ⟨rfl, hcd⟩ := hB.1
    refine vx_catch (pc := 4) hown [] ⟨0, 9, 12, 13⟩ [] (by rw [htab]; rfl) (fun z hz => by cases hz) (by decide) (by decide) (hts _ q256) (va_Nw.use (A := args) rfl (hK.2.1.2.2.1 _ _ q270)) h1 h2 h3 ?_
    have hT := hT1
    have hS := hS1
    refine lv_astore_n (lv' := [(3, .ref q9), (0, .ref (S.A 0)), (1, .int mt), (2, .ref oa)]) hx hb dX0_recall_12 rfl hl (by decide) rfl (fun ls hl => ?_)
    refine lv_iconst (v := 1) hx hb dX0_recall_13 (by decide) ?_
    exact vx_ret (ze_i hx hb hr hlocks hS dX0_recall_14 (by show _ ≤ 2; omega) (by show _ ≤ 10; omega) (S, T, f0) ⟨hcd.symm, hoa, Or.inr ⟨by decide, rfl, hY⟩⟩ hT)
  · obtain ⟨⟨rfl, hc0⟩, hY1⟩ := hp
    obtain ⟨hT, hn1⟩ := zTH.join hT (by rw [← ht]; exact hB) (hkk oa (hT.lt (va_up_self _ _ _)) (fun z => z.2 rfl))
    have hS := hS1
    refine lv_i2l (v := ((m_recall X mt).1).toInt64) hx hb dX0_recall_7 rfl ?_
    refine zt_lst (k := 0) hx hb hK.1 hT hS (va_up_self _ _ _) (by decide) (by decide) dX0_recall_8 (fun H locs hT hS => ?_)
    rw [zup_up] at hT
    refine lv_goto (tgt := 15) hx hb dX0_recall_9 (by decide) ?_
    refine lv_iconst (v := 0) hx hb dX0_recall_15 (by decide) ?_
    exact vx_ret (ze_i hx hb hr hlocks hS dX0_recall_16 (by show _ ≤ 2; omega) (by show _ ≤ 10; omega) (S, u, va_up f0 0 (((m_recall X mt).1).toInt64)) ⟨hc0.symm, hn1, Or.inl ⟨rfl, hY1, va_up_self f0 0 _, rfl⟩⟩ hT)
theorem zn_X0_release : zN yX0_release 3 := by decide +kernel
set_option maxHeartbeats 4000000 in
theorem ct_X0_release (l : Launch) (hl0 : l.stackTraces = false) (g : zG) (A : Nat → Prop) (S : zS) (X : zX) (T : zT) (hY : zSy S g X T) (oa : Nat) (f0 : Nat → Int64) (hoa : T oa = none) (hI : MH X) (hC : zKo S X) (hKk : zKk S X) (hz9 : ∀ p, X 9 p = 0 ∨ X 9 p = 1) (hz10 : ∀ p, X 10 p = 0 ∨ X 10 p = 1) (hBB : zBB S X) (x : Int32) : vx_Met l yX0_release (wsW_ yX0_release cX0_release 4 (some .int) [((0 : Nat), (9 : Nat), (12 : Nat), (25 : Nat)), ((0 : Nat), (9 : Nat), (15 : Nat), (13 : Nat))]) (zR 19 9 33) (zP [.ref (S.A 0), .int x, .ref oa] g A (zTH g A (va_up T oa (some (.inl (zJ g 1 f0)))))) (va_Qi (fun k (u : zS × zT × (Nat → Int64)) => k = (m_release X x).2 0 0 ∧ u.2.1 oa = none ∧ ((k = 0 ∧ zSy u.1 g (m_release X x).2 u.2.1 ∧ u.2.2 0 = (m_release X x).1.toInt64 ∧ u.1 = S) ∨ (¬ k = 0 ∧ u.1 = S ∧ zSy S g X u.2.1))) (fun u t => zTH g A (va_up u.2.1 oa (some (.inl (zJ g 1 u.2.2)))) t.heap) A) (vx_X (fun (_ : Unit) => False) (fun _ _ _ => True) A) 9 33 A := by
  refine zb_wmet (by decide) (Nat.le_of_ble_eq_true rfl) ?_
  intro p e s m args below meth c ls hx hb hr hml hown hts hlocks hnm hK hT ha_ hl htab
  have hown : s.vm.findClass RX0 = some m.cls := hown
  have hS : va_S A s.heap s.heap [] := va_S.rf
  have hl : lv_has ls 4 [(0, .ref (S.A 0)), (1, .int x), (2, .ref oa)] := hl
  refine lv_aload_n hx hb dX0_release_0 rfl (lv_at hl 2 rfl) ?_
  refine lv_iconst (v := 0) hx hb dX0_release_1 (by decide) ?_
  refine lv_aload_n hx hb dX0_release_2 rfl (lv_at hl 0 rfl) ?_
  refine lv_iload_n hx hb dX0_release_3 rfl (lv_at hl 1 rfl) ?_
  have hlt0 : True := trivial
  refine vx_calli (zxr_V (As := [.int x]) (rest := [.int 0, .ref oa]) ⟨hx, hb, hml, hown, hts⟩ (ct_X1_release l hl0 g (fun q => A q ∧ q ≠ oa) S X T hY hI hC hKk hz9 hz10 hBB x) zn_X1_release (lw_V q854 q855 q856 q39 q857) rfl (by decide) (by decide) hK (fun q h => h.1) hS (hT.split hoa) (zt_recv hK.1 (hT.split hoa) hY.w rfl) rfl hl.1 (Nat.le_of_ble_eq_true rfl) dX0_release_4 ⟨by show _ + 9 ≤ 9; omega, by show _ + 33 ≤ 33; omega⟩) hS (fun _ _ h => h.1) (fun _ h => h.1) (fun _ _ h => h.1) (fun E ce q9 _ t H1 locs1 ht _ _ hB hz hkk hS1 h1 h2 h3 => ?_) (fun r u t H1 locs1 ht _ hp hB hz hkk hS1 => ?_)
  · obtain ⟨hT1, -⟩ := zTH.join hT (by rw [← ht]; exact hB.2) (hkk oa (hT.lt (va_up_self _ _ _)) (fun z => z.2 rfl))
    rcases hB.1 with ⟨rfl, hcd⟩ | ⟨rfl, hcd⟩
    · refine vx_catch (pc := 4) hown [] ⟨0, 9, 12, 25⟩ [⟨0, 9, 15, 13⟩] (by rw [htab]; rfl) (fun z hz => by cases hz) (by decide) (by decide) (hts _ q477) (va_Nw.use (A := args) rfl (hK.2.1.2.2.1 _ _ q524)) h1 h2 h3 ?_
      have hT := hT1
      have hS := hS1
      refine lv_astore_n (lv' := [(3, .ref q9), (0, .ref (S.A 0)), (1, .int x), (2, .ref oa)]) hx hb dX0_release_12 rfl hl (by decide) rfl (fun ls hl => ?_)
      refine lv_iconst (v := 1) hx hb dX0_release_13 (by decide) ?_
      exact vx_ret (ze_i hx hb hr hlocks hS dX0_release_14 (by show _ ≤ 9; omega) (by show _ ≤ 33; omega) (S, T, f0) ⟨hcd.symm, hoa, Or.inr ⟨by decide, rfl, hY⟩⟩ hT)
    · refine vx_catch (pc := 4) hown [⟨0, 9, 12, 25⟩] ⟨0, 9, 15, 13⟩ [] (by rw [htab]; rfl) (fun z hz => by simp only [List.mem_cons, List.not_mem_nil, or_false] at hz; rcases hz with rfl; exact Or.inr ⟨by decide, _, hts _ q477, hK.2.1.2.2.2.2.2.2.2.2.2.1⟩) (by decide) (by decide) (hts _ q256) (va_Nw.use (A := args) rfl (hK.2.1.2.2.1 _ _ q270)) h1 h2 h3 ?_
      have hT := hT1
      have hS := hS1
      refine lv_astore_n (lv' := [(3, .ref q9), (0, .ref (S.A 0)), (1, .int x), (2, .ref oa)]) hx hb dX0_release_15 rfl hl (by decide) rfl (fun ls hl => ?_)
      refine lv_iconst (v := 2) hx hb dX0_release_16 (by decide) ?_
      exact vx_ret (ze_i hx hb hr hlocks hS dX0_release_17 (by show _ ≤ 9; omega) (by show _ ≤ 33; omega) (S, T, f0) ⟨hcd.symm, hoa, Or.inr ⟨by decide, rfl, hY⟩⟩ hT)
  · obtain ⟨⟨rfl, hc0⟩, hY1⟩ := hp
    obtain ⟨hT, hn1⟩ := zTH.join hT (by rw [← ht]; exact hB) (hkk oa (hT.lt (va_up_self _ _ _)) (fun z => z.2 rfl))
    have hS := hS1
    refine lv_i2l (v := ((m_release X x).1).toInt64) hx hb dX0_release_7 rfl ?_
    refine zt_lst (k := 0) hx hb hK.1 hT hS (va_up_self _ _ _) (by decide) (by decide) dX0_release_8 (fun H locs hT hS => ?_)
    rw [zup_up] at hT
    refine lv_goto (tgt := 18) hx hb dX0_release_9 (by decide) ?_
    refine lv_iconst (v := 0) hx hb dX0_release_18 (by decide) ?_
    exact vx_ret (ze_i hx hb hr hlocks hS dX0_release_19 (by show _ ≤ 9; omega) (by show _ ≤ 33; omega) (S, u, va_up f0 0 (((m_release X x).1).toInt64)) ⟨hc0.symm, hn1, Or.inl ⟨rfl, hY1, va_up_self f0 0 _, rfl⟩⟩ hT)
theorem zn_X0_comes : zN yX0_comes 4 := by decide +kernel
set_option maxHeartbeats 4000000 in
theorem ct_X0_comes (l : Launch) (hl0 : l.stackTraces = false) (g : zG) (A : Nat → Prop) (S : zS) (X : zX) (T : zT) (hY : zSy S g X T) (oa : Nat) (f0 : Nat → Int64) (hoa : T oa = none) (hI : MH X) (hW : zWo S X) (hWl : S.Wt.length = mW X) (hws : ∀ i, i < mN X → S.Wt.any (fun e => decide (e.2.1 = i)) = mWs X (nI i)) (hht : ∀ t, S.Wt.any (fun e => decide (e.2.2 = t)) = zany (fun k => decide (X 28 (mWt X k) = t)) (mW X)) (x tm : Int32) : vx_Met l yX0_comes (wsW_ yX0_comes cX0_comes 5 (some .int) [((0 : Nat), (10 : Nat), (13 : Nat), (25 : Nat)), ((0 : Nat), (10 : Nat), (17 : Nat), (13 : Nat)), ((0 : Nat), (10 : Nat), (21 : Nat), (15 : Nat))]) (zR 10 6 190) (zP [.ref (S.A 0), .int x, .int tm, .ref oa] g A (zTH g A (va_up T oa (some (.inl (zJ g 1 f0)))))) (va_Qi (fun k (u : zS × zT × (Nat → Int64)) => k = (m_comes X x tm).2 0 0 ∧ u.2.1 oa = none ∧ ((k = 0 ∧ zSy u.1 g (m_comes X x tm).2 u.2.1 ∧ u.2.2 0 = (m_comes X x tm).1.toInt64 ∧ ∃ q, u.1 = S.wA (q, x.toNatClampNeg, tm)) ∨ (¬ k = 0 ∧ u.1 = S ∧ zSy S g X u.2.1))) (fun u t => zTH g A (va_up u.2.1 oa (some (.inl (zJ g 1 u.2.2)))) t.heap) A) (vx_X (fun (_ : Unit) => False) (fun _ _ _ => True) A) 6 190 A := by
  refine zb_wmet (by decide) (Nat.le_of_ble_eq_true rfl) ?_
  intro p e s m args below meth c ls hx hb hr hml hown hts hlocks hnm hK hT ha_ hl htab
  have hown : s.vm.findClass RX0 = some m.cls := hown
  have hS : va_S A s.heap s.heap [] := va_S.rf
  have hl : lv_has ls 5 [(0, .ref (S.A 0)), (1, .int x), (2, .int tm), (3, .ref oa)] := hl
  refine lv_aload_n hx hb dX0_comes_0 rfl (lv_at hl 3 rfl) ?_
  refine lv_iconst (v := 0) hx hb dX0_comes_1 (by decide) ?_
  refine lv_aload_n hx hb dX0_comes_2 rfl (lv_at hl 0 rfl) ?_
  refine lv_iload_n hx hb dX0_comes_3 rfl (lv_at hl 1 rfl) ?_
  refine lv_iload_n hx hb dX0_comes_4 rfl (lv_at hl 2 rfl) ?_
  have hlt0 : True := trivial
  refine vx_calli (zxr_V (As := [.int x, .int tm]) (rest := [.int 0, .ref oa]) ⟨hx, hb, hml, hown, hts⟩ (ct_X1_comes l hl0 g (fun q => A q ∧ q ≠ oa) S X T hY hI hW hWl hws hht x tm) zn_X1_comes (lw_V q885 q886 q887 q39 q888) rfl (by decide) (by decide) hK (fun q h => h.1) hS (hT.split hoa) (zt_recv hK.1 (hT.split hoa) hY.w rfl) rfl hl.1 (Nat.le_of_ble_eq_true rfl) dX0_comes_5 ⟨by show _ + 6 ≤ 6; omega, by show _ + 190 ≤ 190; omega⟩) hS (fun _ _ h => h.1) (fun _ h => h.1) (fun _ _ h => h.1) (fun E ce q9 _ t H1 locs1 ht _ _ hB hz hkk hS1 h1 h2 h3 => ?_) (fun r u t H1 locs1 ht _ hp hB hz hkk hS1 => ?_)
  · obtain ⟨hT1, -⟩ := zTH.join hT (by rw [← ht]; exact hB.2) (hkk oa (hT.lt (va_up_self _ _ _)) (fun z => z.2 rfl))
    rcases hB.1 with ⟨rfl, hcd⟩ | ⟨rfl, hcd⟩ | ⟨rfl, hcd⟩
    · refine vx_catch (pc := 5) hown [] ⟨0, 10, 13, 25⟩ [⟨0, 10, 17, 13⟩, ⟨0, 10, 21, 15⟩] (by rw [htab]; rfl) (fun z hz => by cases hz) (by decide) (by decide) (hts _ q477) (va_Nw.use (A := args) rfl (hK.2.1.2.2.1 _ _ q524)) h1 h2 h3 ?_
      have hT := hT1
      have hS := hS1
      refine lv_astore (lv' := [(4, .ref q9), (0, .ref (S.A 0)), (1, .int x), (2, .int tm), (3, .ref oa)]) hx hb dX0_comes_13 hl (by decide) rfl (fun ls hl => ?_)
      refine lv_iconst (v := 1) hx hb dX0_comes_15 (by decide) ?_
      exact vx_ret (ze_i hx hb hr hlocks hS dX0_comes_16 (by show _ ≤ 6; omega) (by show _ ≤ 190; omega) (S, T, f0) ⟨hcd.symm, hoa, Or.inr ⟨by decide, rfl, hY⟩⟩ hT)
    · refine vx_catch (pc := 5) hown [⟨0, 10, 13, 25⟩] ⟨0, 10, 17, 13⟩ [⟨0, 10, 21, 15⟩] (by rw [htab]; rfl) (fun z hz => by simp only [List.mem_cons, List.not_mem_nil, or_false] at hz; rcases hz with rfl; exact Or.inr ⟨by decide, _, hts _ q477, hK.2.1.2.2.2.2.2.2.2.2.2.1⟩) (by decide) (by decide) (hts _ q256) (va_Nw.use (A := args) rfl (hK.2.1.2.2.1 _ _ q270)) h1 h2 h3 ?_
      have hT := hT1
      have hS := hS1
      refine lv_astore (lv' := [(4, .ref q9), (0, .ref (S.A 0)), (1, .int x), (2, .int tm), (3, .ref oa)]) hx hb dX0_comes_17 hl (by decide) rfl (fun ls hl => ?_)
      refine lv_iconst (v := 2) hx hb dX0_comes_19 (by decide) ?_
      exact vx_ret (ze_i hx hb hr hlocks hS dX0_comes_20 (by show _ ≤ 6; omega) (by show _ ≤ 190; omega) (S, T, f0) ⟨hcd.symm, hoa, Or.inr ⟨by decide, rfl, hY⟩⟩ hT)
    · refine vx_catch (pc := 5) hown [⟨0, 10, 13, 25⟩, ⟨0, 10, 17, 13⟩] ⟨0, 10, 21, 15⟩ [] (by rw [htab]; rfl) (fun z hz => by simp only [List.mem_cons, List.not_mem_nil, or_false] at hz; rcases hz with rfl | rfl <;> first | exact Or.inr ⟨by decide, _, hts _ q477, hK.2.1.2.2.2.2.2.2.2.2.2.2.1⟩ | exact Or.inr ⟨by decide, _, hts _ q256, hK.2.1.2.2.2.2.2.2.2.2.2.2.2⟩) (by decide) (by decide) (hts _ q257) (va_Nw.use (A := args) rfl (hK.2.1.2.2.1 _ _ q343)) h1 h2 h3 ?_
      have hT := hT1
      have hS := hS1
      refine lv_astore (lv' := [(4, .ref q9), (0, .ref (S.A 0)), (1, .int x), (2, .int tm), (3, .ref oa)]) hx hb dX0_comes_21 hl (by decide) rfl (fun ls hl => ?_)
      refine lv_iconst (v := 3) hx hb dX0_comes_23 (by decide) ?_
      exact vx_ret (ze_i hx hb hr hlocks hS dX0_comes_24 (by show _ ≤ 6; omega) (by show _ ≤ 190; omega) (S, T, f0) ⟨hcd.symm, hoa, Or.inr ⟨by decide, rfl, hY⟩⟩ hT)
  · obtain ⟨⟨rfl, hc0⟩, hY1, hrel⟩ := hp
    obtain ⟨hT, hn1⟩ := zTH.join hT (by rw [← ht]; exact hB) (hkk oa (hT.lt (va_up_self _ _ _)) (fun z => z.2 rfl))
    have hS := hS1
    refine lv_i2l (v := ((m_comes X x tm).1).toInt64) hx hb dX0_comes_8 rfl ?_
    refine zt_lst (k := 0) hx hb hK.1 hT hS (va_up_self _ _ _) (by decide) (by decide) dX0_comes_9 (fun H locs hT hS => ?_)
    rw [zup_up] at hT
    refine lv_goto (tgt := 25) hx hb dX0_comes_10 (by decide) ?_
    refine lv_iconst (v := 0) hx hb dX0_comes_25 (by decide) ?_
    exact vx_ret (ze_i hx hb hr hlocks hS dX0_comes_26 (by show _ ≤ 6; omega) (by show _ ≤ 190; omega) (u.1, u.2, va_up f0 0 (((m_comes X x tm).1).toInt64)) ⟨hc0.symm, hn1, Or.inl ⟨rfl, hY1, va_up_self f0 0 _, hrel⟩⟩ hT)
theorem zn_X0_night : zN yX0_night 2 := by decide +kernel
set_option maxHeartbeats 4000000 in
theorem ct_X0_night (l : Launch) (hl0 : l.stackTraces = false) (g : zG) (A : Nat → Prop) (S : zS) (X : zX) (T : zT) (hY : zSy S g X T) (oa : Nat) (f0 : Nat → Int64) (hoa : T oa = none) (hW : zWo S X) (hWl : S.Wt.length = mW X) (hpl : ¬ mW X = 0 → (zsr S true).1 = (m_plans (zu X 0 0 0)).1) (hbf : ¬ mW X = 0 → ∀ k, k < S.Wt.length → ∃ r, r < 3 ∧ (S.gv (zsr S true)).bf k = nI r) (hRl : ∀ r, r < 3 → (S.Rd r).length = mR X r) (hWe : ∀ k e, S.Wt[k]? = some e → X 27 k = nI e.2.1 ∧ e.2.1 < 60) : vx_Met l yX0_night (wsW_ yX0_night cX0_night 3 (some .int) [((0 : Nat), (8 : Nat), (11 : Nat), (15 : Nat))]) (zR 17 12 1300) (zP [.ref (S.A 0), .ref oa] g A (zTH g A (va_up T oa (some (.inl (zJ g 1 f0)))))) (va_Qi (fun k (u : zS × zT × (Nat → Int64)) => k = (m_night X).2 0 0 ∧ u.2.1 oa = none ∧ ((k = 0 ∧ zSy u.1 g (m_night X).2 u.2.1 ∧ u.2.2 0 = (m_night X).1.toInt64 ∧ ∃ q, u.1 = (zNS (S.gv (zsr S true)) S.Wt.length).nw q) ∨ (¬ k = 0 ∧ u.1 = S ∧ zSy S g X u.2.1))) (fun u t => zTH g A (va_up u.2.1 oa (some (.inl (zJ g 1 u.2.2)))) t.heap) A) (vx_X (fun (_ : Unit) => False) (fun _ _ _ => True) A) 12 1300 A := by
  refine zb_wmet (by decide) (Nat.le_of_ble_eq_true rfl) ?_
  intro p e s m args below meth c ls hx hb hr hml hown hts hlocks hnm hK hT ha_ hl htab
  have hown : s.vm.findClass RX0 = some m.cls := hown
  have hS : va_S A s.heap s.heap [] := va_S.rf
  have hl : lv_has ls 3 [(0, .ref (S.A 0)), (1, .ref oa)] := hl
  refine lv_aload_n hx hb dX0_night_0 rfl (lv_at hl 1 rfl) ?_
  refine lv_iconst (v := 0) hx hb dX0_night_1 (by decide) ?_
  refine lv_aload_n hx hb dX0_night_2 rfl (lv_at hl 0 rfl) ?_
  have hlt0 : True := trivial
  refine vx_calli (zxr_V (As := []) (rest := [.int 0, .ref oa]) ⟨hx, hb, hml, hown, hts⟩ (ct_X1_night l hl0 g (fun q => A q ∧ q ≠ oa) S X T hY hW hWl hpl hbf hRl hWe) zn_X1_night (lw_V q910 q911 q912 q39 q913) rfl (by decide) (by decide) hK (fun q h => h.1) hS (hT.split hoa) (zt_recv hK.1 (hT.split hoa) hY.w rfl) rfl hl.1 (Nat.le_of_ble_eq_true rfl) dX0_night_3 ⟨by show _ + 12 ≤ 12; omega, by show _ + 1300 ≤ 1300; omega⟩) hS (fun _ _ h => h.1) (fun _ h => h.1) (fun _ _ h => h.1) (fun E ce q9 _ t H1 locs1 ht _ _ hB hz hkk hS1 h1 h2 h3 => ?_) (fun r u t H1 locs1 ht _ hp hB hz hkk hS1 => ?_)
  · obtain ⟨hT1, -⟩ := zTH.join hT (by rw [← ht]; exact hB.2) (hkk oa (hT.lt (va_up_self _ _ _)) (fun z => z.2 rfl))
    obtain ⟨rfl, hcd⟩ := hB.1
    refine vx_catch (pc := 3) hown [] ⟨0, 8, 11, 15⟩ [] (by rw [htab]; rfl) (fun z hz => by cases hz) (by decide) (by decide) (hts _ q257) (va_Nw.use (A := args) rfl (hK.2.1.2.2.1 _ _ q343)) h1 h2 h3 ?_
    have hT := hT1
    have hS := hS1
    refine lv_astore_n (lv' := [(2, .ref q9), (0, .ref (S.A 0)), (1, .ref oa)]) hx hb dX0_night_11 rfl hl (by decide) rfl (fun ls hl => ?_)
    refine lv_iconst (v := 1) hx hb dX0_night_12 (by decide) ?_
    exact vx_ret (ze_i hx hb hr hlocks hS dX0_night_13 (by show _ ≤ 12; omega) (by show _ ≤ 1300; omega) (S, T, f0) ⟨hcd.symm, hoa, Or.inr ⟨by decide, rfl, hY⟩⟩ hT)
  · obtain ⟨⟨rfl, hc0⟩, hY1, hrel⟩ := hp
    obtain ⟨hT, hn1⟩ := zTH.join hT (by rw [← ht]; exact hB) (hkk oa (hT.lt (va_up_self _ _ _)) (fun z => z.2 rfl))
    have hS := hS1
    refine lv_i2l (v := ((m_night X).1).toInt64) hx hb dX0_night_6 rfl ?_
    refine zt_lst (k := 0) hx hb hK.1 hT hS (va_up_self _ _ _) (by decide) (by decide) dX0_night_7 (fun H locs hT hS => ?_)
    rw [zup_up] at hT
    refine lv_goto (tgt := 14) hx hb dX0_night_8 (by decide) ?_
    refine lv_iconst (v := 0) hx hb dX0_night_14 (by decide) ?_
    exact vx_ret (ze_i hx hb hr hlocks hS dX0_night_15 (by show _ ≤ 12; omega) (by show _ ≤ 1300; omega) (u.1, u.2, va_up f0 0 (((m_night X).1).toInt64)) ⟨hc0.symm, hn1, Or.inl ⟨rfl, hY1, va_up_self f0 0 _, hrel⟩⟩ hT)
theorem zn_X0_out : zN yX0_out 2 := by decide +kernel
set_option maxHeartbeats 4000000 in
theorem ct_X0_out (l : Launch) (hl0 : l.stackTraces = false) (g : zG) (A : Nat → Prop) (S : zS) (X : zX) (T : zT) (hY : zSy S g X T) (oa : Nat) (f0 : Nat → Int64) (hoa : T oa = none) (hI : MH X) (hW : zWo S X) (hRl : ∀ r, r < 3 → (S.Rd r).length = mR X r) (hRe : ∀ r, r < 3 → ∀ (k : Nat) (e : zC3), (S.Rd r)[k]? = some e → X 32 (4 * r + k) = nI e.2.1) (hRt : ∀ r, r < 3 → ∀ (k : Nat) (e : zC3), (S.Rd r)[k]? = some e → mTm X r k = e.2.2) (hRn : ∀ r, r < 3 → ∀ (i j : Nat) (ei ej : zC3), (S.Rd r)[i]? = some ei → (S.Rd r)[j]? = some ej → ei.2.1 = ej.2.1 → i = j) : vx_Met l yX0_out (wsW_ yX0_out cX0_out 3 (some .int) [((0 : Nat), (8 : Nat), (11 : Nat), (15 : Nat))]) (zR 8 8 40) (zP [.ref (S.A 0), .ref oa] g A (zTH g A (va_up T oa (some (.inl (zJ g 1 f0)))))) (va_Qi (fun k (u : zS × zT × (Nat → Int64)) => k = (m_out X).2 0 0 ∧ u.2.1 oa = none ∧ ((k = 0 ∧ zSy u.1 g (m_out X).2 u.2.1 ∧ u.2.2 0 = (m_out X).1.toInt64 ∧ ∃ q, zo2 X 3 = some q ∧ u.1 = S.rS q.1 ((S.Rd q.1).eraseIdx q.2)) ∨ (¬ k = 0 ∧ u.1 = S ∧ zSy S g X u.2.1))) (fun u t => zTH g A (va_up u.2.1 oa (some (.inl (zJ g 1 u.2.2)))) t.heap) A) (vx_X (fun (_ : Unit) => False) (fun _ _ _ => True) A) 8 40 A := by
  refine zb_wmet (by decide) (Nat.le_of_ble_eq_true rfl) ?_
  intro p e s m args below meth c ls hx hb hr hml hown hts hlocks hnm hK hT ha_ hl htab
  have hown : s.vm.findClass RX0 = some m.cls := hown
  have hS : va_S A s.heap s.heap [] := va_S.rf
  have hl : lv_has ls 3 [(0, .ref (S.A 0)), (1, .ref oa)] := hl
  refine lv_aload_n hx hb dX0_out_0 rfl (lv_at hl 1 rfl) ?_
  refine lv_iconst (v := 0) hx hb dX0_out_1 (by decide) ?_
  refine lv_aload_n hx hb dX0_out_2 rfl (lv_at hl 0 rfl) ?_
  have hlt0 : True := trivial
  refine vx_calli (zxr_V (As := []) (rest := [.int 0, .ref oa]) ⟨hx, hb, hml, hown, hts⟩ (ct_X1_out l hl0 g (fun q => A q ∧ q ≠ oa) S X T hY hI hW hRl hRe hRt hRn) zn_X1_out (lw_V q921 q922 q923 q39 q924) rfl (by decide) (by decide) hK (fun q h => h.1) hS (hT.split hoa) (zt_recv hK.1 (hT.split hoa) hY.w rfl) rfl hl.1 (Nat.le_of_ble_eq_true rfl) dX0_out_3 ⟨by show _ + 8 ≤ 8; omega, by show _ + 40 ≤ 40; omega⟩) hS (fun _ _ h => h.1) (fun _ h => h.1) (fun _ _ h => h.1) (fun E ce q9 _ t H1 locs1 ht _ _ hB hz hkk hS1 h1 h2 h3 => ?_) (fun r u t H1 locs1 ht _ hp hB hz hkk hS1 => ?_)
  · obtain ⟨hT1, -⟩ := zTH.join hT (by rw [← ht]; exact hB.2) (hkk oa (hT.lt (va_up_self _ _ _)) (fun z => z.2 rfl))
    obtain ⟨rfl, hcd⟩ := hB.1
    refine vx_catch (pc := 3) hown [] ⟨0, 8, 11, 15⟩ [] (by rw [htab]; rfl) (fun z hz => by cases hz) (by decide) (by decide) (hts _ q257) (va_Nw.use (A := args) rfl (hK.2.1.2.2.1 _ _ q343)) h1 h2 h3 ?_
    have hT := hT1
    have hS := hS1
    refine lv_astore_n (lv' := [(2, .ref q9), (0, .ref (S.A 0)), (1, .ref oa)]) hx hb dX0_out_11 rfl hl (by decide) rfl (fun ls hl => ?_)
    refine lv_iconst (v := 1) hx hb dX0_out_12 (by decide) ?_
    exact vx_ret (ze_i hx hb hr hlocks hS dX0_out_13 (by show _ ≤ 8; omega) (by show _ ≤ 40; omega) (S, T, f0) ⟨hcd.symm, hoa, Or.inr ⟨by decide, rfl, hY⟩⟩ hT)
  · obtain ⟨⟨rfl, hc0⟩, hY1, hrel⟩ := hp
    obtain ⟨hT, hn1⟩ := zTH.join hT (by rw [← ht]; exact hB) (hkk oa (hT.lt (va_up_self _ _ _)) (fun z => z.2 rfl))
    have hS := hS1
    refine lv_i2l (v := ((m_out X).1).toInt64) hx hb dX0_out_6 rfl ?_
    refine zt_lst (k := 0) hx hb hK.1 hT hS (va_up_self _ _ _) (by decide) (by decide) dX0_out_7 (fun H locs hT hS => ?_)
    rw [zup_up] at hT
    refine lv_goto (tgt := 14) hx hb dX0_out_8 (by decide) ?_
    refine lv_iconst (v := 0) hx hb dX0_out_14 (by decide) ?_
    exact vx_ret (ze_i hx hb hr hlocks hS dX0_out_15 (by show _ ≤ 8; omega) (by show _ ≤ 40; omega) (u.1, u.2, va_up f0 0 (((m_out X).1).toInt64)) ⟨hc0.symm, hn1, Or.inl ⟨rfl, hY1, va_up_self f0 0 _, hrel⟩⟩ hT)
theorem zn_X0_host : zN yX0_host 3 := by decide +kernel
set_option maxHeartbeats 4000000 in
theorem ct_X0_host (l : Launch) (hl0 : l.stackTraces = false) (g : zG) (A : Nat → Prop) (S : zS) (X : zX) (T : zT) (hY : zSy S g X T) (oa : Nat) (f0 : Nat → Int64) (hoa : T oa = none) (hI : MH X) (x : Int32) : vx_Met l yX0_host (wsW_ yX0_host cX0_host 4 (some .int) [((0 : Nat), (9 : Nat), (12 : Nat), (25 : Nat))]) (zR 9 1 6) (zP [.ref (S.A 0), .int x, .ref oa] g A (zTH g A (va_up T oa (some (.inl (zJ g 1 f0)))))) (va_Qi (fun k (u : zS × zT × (Nat → Int64)) => k = (m_host X x).2 0 0 ∧ u.2.1 oa = none ∧ ((k = 0 ∧ zSy u.1 g (m_host X x).2 u.2.1 ∧ u.2.2 0 = (m_host X x).1.toInt64 ∧ u.1 = S) ∨ (¬ k = 0 ∧ u.1 = S ∧ zSy S g X u.2.1))) (fun u t => zTH g A (va_up u.2.1 oa (some (.inl (zJ g 1 u.2.2)))) t.heap) A) (vx_X (fun (_ : Unit) => False) (fun _ _ _ => True) A) 1 6 A := by
  refine zb_wmet (by decide) (Nat.le_of_ble_eq_true rfl) ?_
  intro p e s m args below meth c ls hx hb hr hml hown hts hlocks hnm hK hT ha_ hl htab
  have hown : s.vm.findClass RX0 = some m.cls := hown
  have hS : va_S A s.heap s.heap [] := va_S.rf
  have hl : lv_has ls 4 [(0, .ref (S.A 0)), (1, .int x), (2, .ref oa)] := hl
  refine lv_aload_n hx hb dX0_host_0 rfl (lv_at hl 2 rfl) ?_
  refine lv_iconst (v := 0) hx hb dX0_host_1 (by decide) ?_
  refine lv_aload_n hx hb dX0_host_2 rfl (lv_at hl 0 rfl) ?_
  refine lv_iload_n hx hb dX0_host_3 rfl (lv_at hl 1 rfl) ?_
  have hlt0 : True := trivial
  refine vx_calli (zxr_V (As := [.int x]) (rest := [.int 0, .ref oa]) ⟨hx, hb, hml, hown, hts⟩ (ct_X1_host l hl0 g (fun q => A q ∧ q ≠ oa) S X T hY hI x) zn_X1_host (lw_V q936 q937 q938 q39 q939) rfl (by decide) (by decide) hK (fun q h => h.1) hS (hT.split hoa) (zt_recv hK.1 (hT.split hoa) hY.w rfl) rfl hl.1 (Nat.le_of_ble_eq_true rfl) dX0_host_4 ⟨by show _ + 1 ≤ 1; omega, by show _ + 6 ≤ 6; omega⟩) hS (fun _ _ h => h.1) (fun _ h => h.1) (fun _ _ h => h.1) (fun E ce q9 _ t H1 locs1 ht _ _ hB hz hkk hS1 h1 h2 h3 => ?_) (fun r u t H1 locs1 ht _ hp hB hz hkk hS1 => ?_)
  · obtain ⟨hT1, -⟩ := zTH.join hT (by rw [← ht]; exact hB.2) (hkk oa (hT.lt (va_up_self _ _ _)) (fun z => z.2 rfl))
    obtain ⟨rfl, hcd⟩ := hB.1
    refine vx_catch (pc := 4) hown [] ⟨0, 9, 12, 25⟩ [] (by rw [htab]; rfl) (fun z hz => by cases hz) (by decide) (by decide) (hts _ q477) (va_Nw.use (A := args) rfl (hK.2.1.2.2.1 _ _ q524)) h1 h2 h3 ?_
    have hT := hT1
    have hS := hS1
    refine lv_astore_n (lv' := [(3, .ref q9), (0, .ref (S.A 0)), (1, .int x), (2, .ref oa)]) hx hb dX0_host_12 rfl hl (by decide) rfl (fun ls hl => ?_)
    refine lv_iconst (v := 1) hx hb dX0_host_13 (by decide) ?_
    exact vx_ret (ze_i hx hb hr hlocks hS dX0_host_14 (by show _ ≤ 1; omega) (by show _ ≤ 6; omega) (S, T, f0) ⟨hcd.symm, hoa, Or.inr ⟨by decide, rfl, hY⟩⟩ hT)
  · obtain ⟨rfl, hc0⟩ := hp
    obtain ⟨hT, hn1⟩ := zTH.join hT (by rw [← ht]; exact hB) (hkk oa (hT.lt (va_up_self _ _ _)) (fun z => z.2 rfl))
    have hS := hS1
    refine lv_i2l (v := ((m_host X x).1).toInt64) hx hb dX0_host_7 rfl ?_
    refine zt_lst (k := 0) hx hb hK.1 hT hS (va_up_self _ _ _) (by decide) (by decide) dX0_host_8 (fun H locs hT hS => ?_)
    rw [zup_up] at hT
    refine lv_goto (tgt := 15) hx hb dX0_host_9 (by decide) ?_
    refine lv_iconst (v := 0) hx hb dX0_host_15 (by decide) ?_
    exact vx_ret (ze_i hx hb hr hlocks hS dX0_host_16 (by show _ ≤ 1; omega) (by show _ ≤ 6; omega) (S, T, va_up f0 0 (((m_host X x).1).toInt64)) ⟨hc0.symm, hn1, Or.inl ⟨rfl, (by unfold m_host; split <;> exact hY.hid 0 0 _ (Or.inl rfl)), va_up_self f0 0 _, rfl⟩⟩ hT)
theorem zn_X0_head : zN yX0_head 3 := by decide +kernel
set_option maxHeartbeats 4000000 in
theorem ct_X0_head (l : Launch) (hl0 : l.stackTraces = false) (g : zG) (A : Nat → Prop) (S : zS) (X : zX) (T : zT) (hY : zSy S g X T) (oa : Nat) (f0 : Nat → Int64) (hoa : T oa = none) (hI : MH X) (x : Int32) : vx_Met l yX0_head (wsW_ yX0_head cX0_head 4 (some .int) [((0 : Nat), (9 : Nat), (12 : Nat), (25 : Nat))]) (zR 9 1 6) (zP [.ref (S.A 0), .int x, .ref oa] g A (zTH g A (va_up T oa (some (.inl (zJ g 1 f0)))))) (va_Qi (fun k (u : zS × zT × (Nat → Int64)) => k = (m_head X x).2 0 0 ∧ u.2.1 oa = none ∧ ((k = 0 ∧ zSy u.1 g (m_head X x).2 u.2.1 ∧ u.2.2 0 = (m_head X x).1.toInt64 ∧ u.1 = S) ∨ (¬ k = 0 ∧ u.1 = S ∧ zSy S g X u.2.1))) (fun u t => zTH g A (va_up u.2.1 oa (some (.inl (zJ g 1 u.2.2)))) t.heap) A) (vx_X (fun (_ : Unit) => False) (fun _ _ _ => True) A) 1 6 A := by
  refine zb_wmet (by decide) (Nat.le_of_ble_eq_true rfl) ?_
  intro p e s m args below meth c ls hx hb hr hml hown hts hlocks hnm hK hT ha_ hl htab
  have hown : s.vm.findClass RX0 = some m.cls := hown
  have hS : va_S A s.heap s.heap [] := va_S.rf
  have hl : lv_has ls 4 [(0, .ref (S.A 0)), (1, .int x), (2, .ref oa)] := hl
  refine lv_aload_n hx hb dX0_head_0 rfl (lv_at hl 2 rfl) ?_
  refine lv_iconst (v := 0) hx hb dX0_head_1 (by decide) ?_
  refine lv_aload_n hx hb dX0_head_2 rfl (lv_at hl 0 rfl) ?_
  refine lv_iload_n hx hb dX0_head_3 rfl (lv_at hl 1 rfl) ?_
  have hlt0 : True := trivial
  refine vx_calli (zxr_V (As := [.int x]) (rest := [.int 0, .ref oa]) ⟨hx, hb, hml, hown, hts⟩ (ct_X1_head l hl0 g (fun q => A q ∧ q ≠ oa) S X T hY hI x) zn_X1_head (lw_V q946 q947 q948 q39 q949) rfl (by decide) (by decide) hK (fun q h => h.1) hS (hT.split hoa) (zt_recv hK.1 (hT.split hoa) hY.w rfl) rfl hl.1 (Nat.le_of_ble_eq_true rfl) dX0_head_4 ⟨by show _ + 1 ≤ 1; omega, by show _ + 6 ≤ 6; omega⟩) hS (fun _ _ h => h.1) (fun _ h => h.1) (fun _ _ h => h.1) (fun E ce q9 _ t H1 locs1 ht _ _ hB hz hkk hS1 h1 h2 h3 => ?_) (fun r u t H1 locs1 ht _ hp hB hz hkk hS1 => ?_)
  · obtain ⟨hT1, -⟩ := zTH.join hT (by rw [← ht]; exact hB.2) (hkk oa (hT.lt (va_up_self _ _ _)) (fun z => z.2 rfl))
    obtain ⟨rfl, hcd⟩ := hB.1
    refine vx_catch (pc := 4) hown [] ⟨0, 9, 12, 25⟩ [] (by rw [htab]; rfl) (fun z hz => by cases hz) (by decide) (by decide) (hts _ q477) (va_Nw.use (A := args) rfl (hK.2.1.2.2.1 _ _ q524)) h1 h2 h3 ?_
    have hT := hT1
    have hS := hS1
    refine lv_astore_n (lv' := [(3, .ref q9), (0, .ref (S.A 0)), (1, .int x), (2, .ref oa)]) hx hb dX0_head_12 rfl hl (by decide) rfl (fun ls hl => ?_)
    refine lv_iconst (v := 1) hx hb dX0_head_13 (by decide) ?_
    exact vx_ret (ze_i hx hb hr hlocks hS dX0_head_14 (by show _ ≤ 1; omega) (by show _ ≤ 6; omega) (S, T, f0) ⟨hcd.symm, hoa, Or.inr ⟨by decide, rfl, hY⟩⟩ hT)
  · obtain ⟨rfl, hc0⟩ := hp
    obtain ⟨hT, hn1⟩ := zTH.join hT (by rw [← ht]; exact hB) (hkk oa (hT.lt (va_up_self _ _ _)) (fun z => z.2 rfl))
    have hS := hS1
    refine lv_i2l (v := ((m_head X x).1).toInt64) hx hb dX0_head_7 rfl ?_
    refine zt_lst (k := 0) hx hb hK.1 hT hS (va_up_self _ _ _) (by decide) (by decide) dX0_head_8 (fun H locs hT hS => ?_)
    rw [zup_up] at hT
    refine lv_goto (tgt := 15) hx hb dX0_head_9 (by decide) ?_
    refine lv_iconst (v := 0) hx hb dX0_head_15 (by decide) ?_
    exact vx_ret (ze_i hx hb hr hlocks hS dX0_head_16 (by show _ ≤ 1; omega) (by show _ ≤ 6; omega) (S, T, va_up f0 0 (((m_head X x).1).toInt64)) ⟨hc0.symm, hn1, Or.inl ⟨rfl, (by unfold m_head; split <;> exact hY.hid 0 0 _ (Or.inl rfl)), va_up_self f0 0 _, rfl⟩⟩ hT)
theorem zn_X0_ofPart : zN yX0_ofPart 4 := by decide +kernel
set_option maxHeartbeats 4000000 in
theorem ct_X0_ofPart (l : Launch) (hl0 : l.stackTraces = false) (g : zG) (A : Nat → Prop) (S : zS) (X : zX) (T : zT) (hY : zSy S g X T) (oa : Nat) (f0 : Nat → Int64) (hoa : T oa = none) (hI : MH X) (hMp : ∀ i, i < mN X → (S.TL i).length = mMp X (nI i)) (x wh : Int32) : vx_Met l yX0_ofPart (wsW_ yX0_ofPart cX0_ofPart 5 (some .int) [((0 : Nat), (10 : Nat), (13 : Nat), (25 : Nat)), ((0 : Nat), (10 : Nat), (17 : Nat), (13 : Nat))]) (zR 9 2 12) (zP [.ref (S.A 0), .int x, .int wh, .ref oa] g A (zTH g A (va_up T oa (some (.inl (zJ g 1 f0)))))) (va_Qi (fun k (u : zS × zT × (Nat → Int64)) => k = (m_ofPart X x wh).2 0 0 ∧ u.2.1 oa = none ∧ ((k = 0 ∧ zSy u.1 g (m_ofPart X x wh).2 u.2.1 ∧ u.2.2 0 = (m_ofPart X x wh).1.toInt64 ∧ u.1 = S) ∨ (¬ k = 0 ∧ u.1 = S ∧ zSy S g X u.2.1))) (fun u t => zTH g A (va_up u.2.1 oa (some (.inl (zJ g 1 u.2.2)))) t.heap) A) (vx_X (fun (_ : Unit) => False) (fun _ _ _ => True) A) 2 12 A := by
  refine zb_wmet (by decide) (Nat.le_of_ble_eq_true rfl) ?_
  intro p e s m args below meth c ls hx hb hr hml hown hts hlocks hnm hK hT ha_ hl htab
  have hown : s.vm.findClass RX0 = some m.cls := hown
  have hS : va_S A s.heap s.heap [] := va_S.rf
  have hl : lv_has ls 5 [(0, .ref (S.A 0)), (1, .int x), (2, .int wh), (3, .ref oa)] := hl
  refine lv_aload_n hx hb dX0_ofPart_0 rfl (lv_at hl 3 rfl) ?_
  refine lv_iconst (v := 0) hx hb dX0_ofPart_1 (by decide) ?_
  refine lv_aload_n hx hb dX0_ofPart_2 rfl (lv_at hl 0 rfl) ?_
  refine lv_iload_n hx hb dX0_ofPart_3 rfl (lv_at hl 1 rfl) ?_
  refine lv_iload_n hx hb dX0_ofPart_4 rfl (lv_at hl 2 rfl) ?_
  have hlt0 : True := trivial
  refine vx_calli (zxr_V (As := [.int x, .int wh]) (rest := [.int 0, .ref oa]) ⟨hx, hb, hml, hown, hts⟩ (ct_X1_ofPart l hl0 g (fun q => A q ∧ q ≠ oa) S X T hY hI hMp x wh) zn_X1_ofPart (lw_V q953 q954 q955 q39 q956) rfl (by decide) (by decide) hK (fun q h => h.1) hS (hT.split hoa) (zt_recv hK.1 (hT.split hoa) hY.w rfl) rfl hl.1 (Nat.le_of_ble_eq_true rfl) dX0_ofPart_5 ⟨by show _ + 2 ≤ 2; omega, by show _ + 12 ≤ 12; omega⟩) hS (fun _ _ h => h.1) (fun _ h => h.1) (fun _ _ h => h.1) (fun E ce q9 _ t H1 locs1 ht _ _ hB hz hkk hS1 h1 h2 h3 => ?_) (fun r u t H1 locs1 ht _ hp hB hz hkk hS1 => ?_)
  · obtain ⟨hT1, -⟩ := zTH.join hT (by rw [← ht]; exact hB.2) (hkk oa (hT.lt (va_up_self _ _ _)) (fun z => z.2 rfl))
    rcases hB.1 with ⟨rfl, hcd⟩ | ⟨rfl, hcd⟩
    · refine vx_catch (pc := 5) hown [] ⟨0, 10, 13, 25⟩ [⟨0, 10, 17, 13⟩] (by rw [htab]; rfl) (fun z hz => by cases hz) (by decide) (by decide) (hts _ q477) (va_Nw.use (A := args) rfl (hK.2.1.2.2.1 _ _ q524)) h1 h2 h3 ?_
      have hT := hT1
      have hS := hS1
      refine lv_astore (lv' := [(4, .ref q9), (0, .ref (S.A 0)), (1, .int x), (2, .int wh), (3, .ref oa)]) hx hb dX0_ofPart_13 hl (by decide) rfl (fun ls hl => ?_)
      refine lv_iconst (v := 1) hx hb dX0_ofPart_15 (by decide) ?_
      exact vx_ret (ze_i hx hb hr hlocks hS dX0_ofPart_16 (by show _ ≤ 2; omega) (by show _ ≤ 12; omega) (S, T, f0) ⟨hcd.symm, hoa, Or.inr ⟨by decide, rfl, hY⟩⟩ hT)
    · refine vx_catch (pc := 5) hown [⟨0, 10, 13, 25⟩] ⟨0, 10, 17, 13⟩ [] (by rw [htab]; rfl) (fun z hz => by simp only [List.mem_cons, List.not_mem_nil, or_false] at hz; rcases hz with rfl; exact Or.inr ⟨by decide, _, hts _ q477, hK.2.1.2.2.2.2.2.2.2.2.2.1⟩) (by decide) (by decide) (hts _ q256) (va_Nw.use (A := args) rfl (hK.2.1.2.2.1 _ _ q270)) h1 h2 h3 ?_
      have hT := hT1
      have hS := hS1
      refine lv_astore (lv' := [(4, .ref q9), (0, .ref (S.A 0)), (1, .int x), (2, .int wh), (3, .ref oa)]) hx hb dX0_ofPart_17 hl (by decide) rfl (fun ls hl => ?_)
      refine lv_iconst (v := 2) hx hb dX0_ofPart_19 (by decide) ?_
      exact vx_ret (ze_i hx hb hr hlocks hS dX0_ofPart_20 (by show _ ≤ 2; omega) (by show _ ≤ 12; omega) (S, T, f0) ⟨hcd.symm, hoa, Or.inr ⟨by decide, rfl, hY⟩⟩ hT)
  · obtain ⟨⟨rfl, hc0⟩, hY1⟩ := hp
    obtain ⟨hT, hn1⟩ := zTH.join hT (by rw [← ht]; exact hB) (hkk oa (hT.lt (va_up_self _ _ _)) (fun z => z.2 rfl))
    have hS := hS1
    refine lv_i2l (v := ((m_ofPart X x wh).1).toInt64) hx hb dX0_ofPart_8 rfl ?_
    refine zt_lst (k := 0) hx hb hK.1 hT hS (va_up_self _ _ _) (by decide) (by decide) dX0_ofPart_9 (fun H locs hT hS => ?_)
    rw [zup_up] at hT
    refine lv_goto (tgt := 21) hx hb dX0_ofPart_10 (by decide) ?_
    refine lv_iconst (v := 0) hx hb dX0_ofPart_21 (by decide) ?_
    exact vx_ret (ze_i hx hb hr hlocks hS dX0_ofPart_22 (by show _ ≤ 2; omega) (by show _ ≤ 12; omega) (S, u, va_up f0 0 (((m_ofPart X x wh).1).toInt64)) ⟨hc0.symm, hn1, Or.inl ⟨rfl, hY1, va_up_self f0 0 _, rfl⟩⟩ hT)
theorem zn_X0_trace : zN yX0_trace 4 := by decide +kernel
set_option maxHeartbeats 4000000 in
theorem ct_X0_trace (l : Launch) (hl0 : l.stackTraces = false) (g : zG) (A : Nat → Prop) (S : zS) (X : zX) (T : zT) (hY : zSy S g X T) (oa : Nat) (f0 : Nat → Int64) (hoa : T oa = none) (hI : MH X) (hO : zTo S X) (hMp : ∀ i, i < mN X → (S.TL i).length = mMp X (nI i)) (hTr : ∀ i, i < mN X → ∀ k o, (S.TL i)[k]? = some o → X 25 (mTr X (nI i) k) = if X 5 i = -2 ∧ k + 1 = (S.TL i).length then -2 else zro2 o) (x mv : Int32) : vx_Met l yX0_trace (wsW_ yX0_trace cX0_trace 5 (some .int) [((0 : Nat), (10 : Nat), (13 : Nat), (25 : Nat))]) (zR 9 2 12) (zP [.ref (S.A 0), .int x, .int mv, .ref oa] g A (zTH g A (va_up T oa (some (.inl (zJ g 1 f0)))))) (va_Qi (fun k (u : zS × zT × (Nat → Int64)) => k = (m_trace X x mv).2 0 0 ∧ u.2.1 oa = none ∧ ((k = 0 ∧ zSy u.1 g (m_trace X x mv).2 u.2.1 ∧ u.2.2 0 = (m_trace X x mv).1.toInt64 ∧ u.1 = S) ∨ (¬ k = 0 ∧ u.1 = S ∧ zSy S g X u.2.1))) (fun u t => zTH g A (va_up u.2.1 oa (some (.inl (zJ g 1 u.2.2)))) t.heap) A) (vx_X (fun (_ : Unit) => False) (fun _ _ _ => True) A) 2 12 A := by
  refine zb_wmet (by decide) (Nat.le_of_ble_eq_true rfl) ?_
  intro p e s m args below meth c ls hx hb hr hml hown hts hlocks hnm hK hT ha_ hl htab
  have hown : s.vm.findClass RX0 = some m.cls := hown
  have hS : va_S A s.heap s.heap [] := va_S.rf
  have hl : lv_has ls 5 [(0, .ref (S.A 0)), (1, .int x), (2, .int mv), (3, .ref oa)] := hl
  refine lv_aload_n hx hb dX0_trace_0 rfl (lv_at hl 3 rfl) ?_
  refine lv_iconst (v := 0) hx hb dX0_trace_1 (by decide) ?_
  refine lv_aload_n hx hb dX0_trace_2 rfl (lv_at hl 0 rfl) ?_
  refine lv_iload_n hx hb dX0_trace_3 rfl (lv_at hl 1 rfl) ?_
  refine lv_iload_n hx hb dX0_trace_4 rfl (lv_at hl 2 rfl) ?_
  have hlt0 : True := trivial
  refine vx_calli (zxr_V (As := [.int x, .int mv]) (rest := [.int 0, .ref oa]) ⟨hx, hb, hml, hown, hts⟩ (ct_X1_trace l hl0 g (fun q => A q ∧ q ≠ oa) S X T hY hI hO hMp hTr x mv) zn_X1_trace (lw_V q960 q961 q962 q39 q963) rfl (by decide) (by decide) hK (fun q h => h.1) hS (hT.split hoa) (zt_recv hK.1 (hT.split hoa) hY.w rfl) rfl hl.1 (Nat.le_of_ble_eq_true rfl) dX0_trace_5 ⟨by show _ + 2 ≤ 2; omega, by show _ + 12 ≤ 12; omega⟩) hS (fun _ _ h => h.1) (fun _ h => h.1) (fun _ _ h => h.1) (fun E ce q9 _ t H1 locs1 ht _ _ hB hz hkk hS1 h1 h2 h3 => ?_) (fun r u t H1 locs1 ht _ hp hB hz hkk hS1 => ?_)
  · obtain ⟨hT1, -⟩ := zTH.join hT (by rw [← ht]; exact hB.2) (hkk oa (hT.lt (va_up_self _ _ _)) (fun z => z.2 rfl))
    obtain ⟨rfl, hcd⟩ := hB.1
    refine vx_catch (pc := 5) hown [] ⟨0, 10, 13, 25⟩ [] (by rw [htab]; rfl) (fun z hz => by cases hz) (by decide) (by decide) (hts _ q477) (va_Nw.use (A := args) rfl (hK.2.1.2.2.1 _ _ q524)) h1 h2 h3 ?_
    have hT := hT1
    have hS := hS1
    refine lv_astore (lv' := [(4, .ref q9), (0, .ref (S.A 0)), (1, .int x), (2, .int mv), (3, .ref oa)]) hx hb dX0_trace_13 hl (by decide) rfl (fun ls hl => ?_)
    refine lv_iconst (v := 1) hx hb dX0_trace_15 (by decide) ?_
    exact vx_ret (ze_i hx hb hr hlocks hS dX0_trace_16 (by show _ ≤ 2; omega) (by show _ ≤ 12; omega) (S, T, f0) ⟨hcd.symm, hoa, Or.inr ⟨by decide, rfl, hY⟩⟩ hT)
  · obtain ⟨⟨rfl, hc0⟩, hY1⟩ := hp
    obtain ⟨hT, hn1⟩ := zTH.join hT (by rw [← ht]; exact hB) (hkk oa (hT.lt (va_up_self _ _ _)) (fun z => z.2 rfl))
    have hS := hS1
    refine lv_i2l (v := ((m_trace X x mv).1).toInt64) hx hb dX0_trace_8 rfl ?_
    refine zt_lst (k := 0) hx hb hK.1 hT hS (va_up_self _ _ _) (by decide) (by decide) dX0_trace_9 (fun H locs hT hS => ?_)
    rw [zup_up] at hT
    refine lv_goto (tgt := 17) hx hb dX0_trace_10 (by decide) ?_
    refine lv_iconst (v := 0) hx hb dX0_trace_17 (by decide) ?_
    exact vx_ret (ze_i hx hb hr hlocks hS dX0_trace_18 (by show _ ≤ 2; omega) (by show _ ≤ 12; omega) (S, u, va_up f0 0 (((m_trace X x mv).1).toInt64)) ⟨hc0.symm, hn1, Or.inl ⟨rfl, hY1, va_up_self f0 0 _, rfl⟩⟩ hT)
theorem zn_X0_lifeAnew : zN yX0_lifeAnew 3 := by decide +kernel
set_option maxHeartbeats 4000000 in
theorem ct_X0_lifeAnew (l : Launch) (hl0 : l.stackTraces = false) (g : zG) (A : Nat → Prop) (S : zS) (X : zX) (T : zT) (hY : zSy S g X T) (oa : Nat) (f0 : Nat → Int64) (hoa : T oa = none) (hI : MH X) (hL : zLo S X) (hHs : ∀ i k, zHs X ((S.L.take k).foldl (zrp i) (zf6 60, 0)).1) (hlf : ∀ i, i < mN X → (S.L.foldl (zrp i) (zf6 60, 0)).2 = X 6 i) (x : Int32) : vx_Met l yX0_lifeAnew (wsW_ yX0_lifeAnew cX0_lifeAnew 4 (some .int) [((0 : Nat), (9 : Nat), (12 : Nat), (25 : Nat))]) (zR 9 3 70) (zP [.ref (S.A 0), .int x, .ref oa] g A (zTH g A (va_up T oa (some (.inl (zJ g 1 f0)))))) (va_Qi (fun k (u : zS × zT × (Nat → Int64)) => k = (m_life X x).2 0 0 ∧ u.2.1 oa = none ∧ ((k = 0 ∧ zSy u.1 g (m_life X x).2 u.2.1 ∧ u.2.2 0 = (m_life X x).1.toInt64 ∧ u.1 = S) ∨ (¬ k = 0 ∧ u.1 = S ∧ zSy S g X u.2.1))) (fun u t => zTH g A (va_up u.2.1 oa (some (.inl (zJ g 1 u.2.2)))) t.heap) A) (vx_X (fun (_ : Unit) => False) (fun _ _ _ => True) A) 3 70 A := by
  refine zb_wmet (by decide) (Nat.le_of_ble_eq_true rfl) ?_
  intro p e s m args below meth c ls hx hb hr hml hown hts hlocks hnm hK hT ha_ hl htab
  have hown : s.vm.findClass RX0 = some m.cls := hown
  have hS : va_S A s.heap s.heap [] := va_S.rf
  have hl : lv_has ls 4 [(0, .ref (S.A 0)), (1, .int x), (2, .ref oa)] := hl
  refine lv_aload_n hx hb dX0_lifeAnew_0 rfl (lv_at hl 2 rfl) ?_
  refine lv_iconst (v := 0) hx hb dX0_lifeAnew_1 (by decide) ?_
  refine lv_aload_n hx hb dX0_lifeAnew_2 rfl (lv_at hl 0 rfl) ?_
  refine lv_iload_n hx hb dX0_lifeAnew_3 rfl (lv_at hl 1 rfl) ?_
  have hlt0 : True := trivial
  refine vx_calli (zxr_V (As := [.int x]) (rest := [.int 0, .ref oa]) ⟨hx, hb, hml, hown, hts⟩ (ct_X1_lifeAnew l hl0 g (fun q => A q ∧ q ≠ oa) S X T hY hI hL hHs hlf x) zn_X1_lifeAnew (lw_V q968 q969 q970 q39 q971) rfl (by decide) (by decide) hK (fun q h => h.1) hS (hT.split hoa) (zt_recv hK.1 (hT.split hoa) hY.w rfl) rfl hl.1 (Nat.le_of_ble_eq_true rfl) dX0_lifeAnew_4 ⟨by show _ + 3 ≤ 3; omega, by show _ + 70 ≤ 70; omega⟩) hS (fun _ _ h => h.1) (fun _ h => h.1) (fun _ _ h => h.1) (fun E ce q9 _ t H1 locs1 ht _ _ hB hz hkk hS1 h1 h2 h3 => ?_) (fun r u t H1 locs1 ht _ hp hB hz hkk hS1 => ?_)
  · obtain ⟨hT1, -⟩ := zTH.join hT (by rw [← ht]; exact hB.2) (hkk oa (hT.lt (va_up_self _ _ _)) (fun z => z.2 rfl))
    obtain ⟨rfl, hcd⟩ := hB.1
    refine vx_catch (pc := 4) hown [] ⟨0, 9, 12, 25⟩ [] (by rw [htab]; rfl) (fun z hz => by cases hz) (by decide) (by decide) (hts _ q477) (va_Nw.use (A := args) rfl (hK.2.1.2.2.1 _ _ q524)) h1 h2 h3 ?_
    have hT := hT1
    have hS := hS1
    refine lv_astore_n (lv' := [(3, .ref q9), (0, .ref (S.A 0)), (1, .int x), (2, .ref oa)]) hx hb dX0_lifeAnew_12 rfl hl (by decide) rfl (fun ls hl => ?_)
    refine lv_iconst (v := 1) hx hb dX0_lifeAnew_13 (by decide) ?_
    exact vx_ret (ze_i hx hb hr hlocks hS dX0_lifeAnew_14 (by show _ ≤ 3; omega) (by show _ ≤ 70; omega) (S, T, f0) ⟨hcd.symm, hoa, Or.inr ⟨by decide, rfl, hY⟩⟩ hT)
  · obtain ⟨⟨rfl, hc0⟩, hY1⟩ := hp
    obtain ⟨hT, hn1⟩ := zTH.join hT (by rw [← ht]; exact hB) (hkk oa (hT.lt (va_up_self _ _ _)) (fun z => z.2 rfl))
    have hS := hS1
    refine lv_i2l (v := ((m_life X x).1).toInt64) hx hb dX0_lifeAnew_7 rfl ?_
    refine zt_lst (k := 0) hx hb hK.1 hT hS (va_up_self _ _ _) (by decide) (by decide) dX0_lifeAnew_8 (fun H locs hT hS => ?_)
    rw [zup_up] at hT
    refine lv_goto (tgt := 15) hx hb dX0_lifeAnew_9 (by decide) ?_
    refine lv_iconst (v := 0) hx hb dX0_lifeAnew_15 (by decide) ?_
    exact vx_ret (ze_i hx hb hr hlocks hS dX0_lifeAnew_16 (by show _ ≤ 3; omega) (by show _ ≤ 70; omega) (S, u, va_up f0 0 (((m_life X x).1).toInt64)) ⟨hc0.symm, hn1, Or.inl ⟨rfl, hY1, va_up_self f0 0 _, rfl⟩⟩ hT)
theorem zn_X0_wheel : zN yX0_wheel 4 := by decide +kernel
set_option maxHeartbeats 4000000 in
theorem ct_X0_wheel (l : Launch) (hl0 : l.stackTraces = false) (g : zG) (A : Nat → Prop) (S : zS) (X : zX) (T : zT) (hY : zSy S g X T) (oa : Nat) (f0 : Nat → Int64) (hoa : T oa = none) (hI : MH X) (x wh : Int32) : vx_Met l yX0_wheel (wsW_ yX0_wheel cX0_wheel 5 (some .int) [((0 : Nat), (10 : Nat), (13 : Nat), (25 : Nat)), ((0 : Nat), (10 : Nat), (17 : Nat), (13 : Nat))]) (zR 10 3 18) (zP [.ref (S.A 0), .int x, .int wh, .ref oa] g A (zTH g A (va_up T oa (some (.inl (zJ g 1 f0)))))) (va_Qi (fun k (u : zS × zT × (Nat → Int64)) => k = (m_wheel X x wh).2 0 0 ∧ u.2.1 oa = none ∧ ((k = 0 ∧ zSy u.1 g (m_wheel X x wh).2 u.2.1 ∧ u.2.2 0 = (m_wheel X x wh).1.toInt64 ∧ u.1 = S) ∨ (¬ k = 0 ∧ u.1 = S ∧ zSy S g X u.2.1))) (fun u t => zTH g A (va_up u.2.1 oa (some (.inl (zJ g 1 u.2.2)))) t.heap) A) (vx_X (fun (_ : Unit) => False) (fun _ _ _ => True) A) 3 18 A := by
  refine zb_wmet (by decide) (Nat.le_of_ble_eq_true rfl) ?_
  intro p e s m args below meth c ls hx hb hr hml hown hts hlocks hnm hK hT ha_ hl htab
  have hown : s.vm.findClass RX0 = some m.cls := hown
  have hS : va_S A s.heap s.heap [] := va_S.rf
  have hl : lv_has ls 5 [(0, .ref (S.A 0)), (1, .int x), (2, .int wh), (3, .ref oa)] := hl
  refine lv_aload_n hx hb dX0_wheel_0 rfl (lv_at hl 3 rfl) ?_
  refine lv_iconst (v := 0) hx hb dX0_wheel_1 (by decide) ?_
  refine lv_aload_n hx hb dX0_wheel_2 rfl (lv_at hl 0 rfl) ?_
  refine lv_iload_n hx hb dX0_wheel_3 rfl (lv_at hl 1 rfl) ?_
  refine lv_iload_n hx hb dX0_wheel_4 rfl (lv_at hl 2 rfl) ?_
  have hlt0 : True := trivial
  refine vx_calli (zxr_V (As := [.int x, .int wh]) (rest := [.int 0, .ref oa]) ⟨hx, hb, hml, hown, hts⟩ (ct_X1_wheel l hl0 g (fun q => A q ∧ q ≠ oa) S X T hY hI x wh) zn_X1_wheel (lw_V q975 q976 q977 q39 q978) rfl (by decide) (by decide) hK (fun q h => h.1) hS (hT.split hoa) (zt_recv hK.1 (hT.split hoa) hY.w rfl) rfl hl.1 (Nat.le_of_ble_eq_true rfl) dX0_wheel_5 ⟨by show _ + 3 ≤ 3; omega, by show _ + 18 ≤ 18; omega⟩) hS (fun _ _ h => h.1) (fun _ h => h.1) (fun _ _ h => h.1) (fun E ce q9 _ t H1 locs1 ht _ _ hB hz hkk hS1 h1 h2 h3 => ?_) (fun r u t H1 locs1 ht _ hp hB hz hkk hS1 => ?_)
  · obtain ⟨hT1, -⟩ := zTH.join hT (by rw [← ht]; exact hB.2) (hkk oa (hT.lt (va_up_self _ _ _)) (fun z => z.2 rfl))
    rcases hB.1 with ⟨rfl, hcd⟩ | ⟨rfl, hcd⟩
    · refine vx_catch (pc := 5) hown [] ⟨0, 10, 13, 25⟩ [⟨0, 10, 17, 13⟩] (by rw [htab]; rfl) (fun z hz => by cases hz) (by decide) (by decide) (hts _ q477) (va_Nw.use (A := args) rfl (hK.2.1.2.2.1 _ _ q524)) h1 h2 h3 ?_
      have hT := hT1
      have hS := hS1
      refine lv_astore (lv' := [(4, .ref q9), (0, .ref (S.A 0)), (1, .int x), (2, .int wh), (3, .ref oa)]) hx hb dX0_wheel_13 hl (by decide) rfl (fun ls hl => ?_)
      refine lv_iconst (v := 1) hx hb dX0_wheel_15 (by decide) ?_
      exact vx_ret (ze_i hx hb hr hlocks hS dX0_wheel_16 (by show _ ≤ 3; omega) (by show _ ≤ 18; omega) (S, T, f0) ⟨hcd.symm, hoa, Or.inr ⟨by decide, rfl, hY⟩⟩ hT)
    · refine vx_catch (pc := 5) hown [⟨0, 10, 13, 25⟩] ⟨0, 10, 17, 13⟩ [] (by rw [htab]; rfl) (fun z hz => by simp only [List.mem_cons, List.not_mem_nil, or_false] at hz; rcases hz with rfl; exact Or.inr ⟨by decide, _, hts _ q477, hK.2.1.2.2.2.2.2.2.2.2.2.1⟩) (by decide) (by decide) (hts _ q256) (va_Nw.use (A := args) rfl (hK.2.1.2.2.1 _ _ q270)) h1 h2 h3 ?_
      have hT := hT1
      have hS := hS1
      refine lv_astore (lv' := [(4, .ref q9), (0, .ref (S.A 0)), (1, .int x), (2, .int wh), (3, .ref oa)]) hx hb dX0_wheel_17 hl (by decide) rfl (fun ls hl => ?_)
      refine lv_iconst (v := 2) hx hb dX0_wheel_19 (by decide) ?_
      exact vx_ret (ze_i hx hb hr hlocks hS dX0_wheel_20 (by show _ ≤ 3; omega) (by show _ ≤ 18; omega) (S, T, f0) ⟨hcd.symm, hoa, Or.inr ⟨by decide, rfl, hY⟩⟩ hT)
  · obtain ⟨⟨rfl, hc0⟩, hY1⟩ := hp
    obtain ⟨hT, hn1⟩ := zTH.join hT (by rw [← ht]; exact hB) (hkk oa (hT.lt (va_up_self _ _ _)) (fun z => z.2 rfl))
    have hS := hS1
    refine lv_i2l (v := ((m_wheel X x wh).1).toInt64) hx hb dX0_wheel_8 rfl ?_
    refine zt_lst (k := 0) hx hb hK.1 hT hS (va_up_self _ _ _) (by decide) (by decide) dX0_wheel_9 (fun H locs hT hS => ?_)
    rw [zup_up] at hT
    refine lv_goto (tgt := 21) hx hb dX0_wheel_10 (by decide) ?_
    refine lv_iconst (v := 0) hx hb dX0_wheel_21 (by decide) ?_
    exact vx_ret (ze_i hx hb hr hlocks hS dX0_wheel_22 (by show _ ≤ 3; omega) (by show _ ≤ 18; omega) (S, u, va_up f0 0 (((m_wheel X x wh).1).toInt64)) ⟨hc0.symm, hn1, Or.inl ⟨rfl, hY1, va_up_self f0 0 _, rfl⟩⟩ hT)
theorem zn_X0_foretell : zN yX0_foretell 5 := by decide +kernel
set_option maxHeartbeats 4000000 in
theorem ct_X0_foretell (l : Launch) (hl0 : l.stackTraces = false) (g : zG) (A : Nat → Prop) (S : zS) (X : zX) (T : zT) (hY : zSy S g X T) (oa : Nat) (f0 : Nat → Int64) (hoa : T oa = none) (hI : MH X) (hgt : ∀ p, p < mN X → ¬ X 17 p = 0 → ¬ X 16 p = -1) (x km se : Int32) : vx_Met l yX0_foretell (wsW_ yX0_foretell cX0_foretell 6 (some .int) [((0 : Nat), (12 : Nat), (15 : Nat), (25 : Nat)), ((0 : Nat), (12 : Nat), (19 : Nat), (13 : Nat))]) (zR 10 3 18) (zP [.ref (S.A 0), .int x, .int km, .int se, .ref oa] g A (zTH g A (va_up T oa (some (.inl (zJ g 1 f0)))))) (va_Qi (fun k (u : zS × zT × (Nat → Int64)) => k = (m_foretell X x km se).2 0 0 ∧ u.2.1 oa = none ∧ ((k = 0 ∧ zSy u.1 g (m_foretell X x km se).2 u.2.1 ∧ u.2.2 0 = (m_foretell X x km se).1.toInt64 ∧ u.1 = S) ∨ (¬ k = 0 ∧ u.1 = S ∧ zSy S g X u.2.1))) (fun u t => zTH g A (va_up u.2.1 oa (some (.inl (zJ g 1 u.2.2)))) t.heap) A) (vx_X (fun (_ : Unit) => False) (fun _ _ _ => True) A) 3 18 A := by
  refine zb_wmet (by decide) (Nat.le_of_ble_eq_true rfl) ?_
  intro p e s m args below meth c ls hx hb hr hml hown hts hlocks hnm hK hT ha_ hl htab
  have hown : s.vm.findClass RX0 = some m.cls := hown
  have hS : va_S A s.heap s.heap [] := va_S.rf
  have hl : lv_has ls 6 [(0, .ref (S.A 0)), (1, .int x), (2, .int km), (3, .int se), (4, .ref oa)] := hl
  refine lv_aload hx hb dX0_foretell_0 (lv_at hl 4 rfl) ?_
  refine lv_iconst (v := 0) hx hb dX0_foretell_2 (by decide) ?_
  refine lv_aload_n hx hb dX0_foretell_3 rfl (lv_at hl 0 rfl) ?_
  refine lv_iload_n hx hb dX0_foretell_4 rfl (lv_at hl 1 rfl) ?_
  refine lv_iload_n hx hb dX0_foretell_5 rfl (lv_at hl 2 rfl) ?_
  refine lv_iload_n hx hb dX0_foretell_6 rfl (lv_at hl 3 rfl) ?_
  have hlt0 : True := trivial
  refine vx_calli (zxr_V (As := [.int x, .int km, .int se]) (rest := [.int 0, .ref oa]) ⟨hx, hb, hml, hown, hts⟩ (ct_X1_foretell l hl0 g (fun q => A q ∧ q ≠ oa) S X T hY hI hgt x km se) zn_X1_foretell (lw_V q982 q983 q984 q39 q985) rfl (by decide) (by decide) hK (fun q h => h.1) hS (hT.split hoa) (zt_recv hK.1 (hT.split hoa) hY.w rfl) rfl hl.1 (Nat.le_of_ble_eq_true rfl) dX0_foretell_7 ⟨by show _ + 3 ≤ 3; omega, by show _ + 18 ≤ 18; omega⟩) hS (fun _ _ h => h.1) (fun _ h => h.1) (fun _ _ h => h.1) (fun E ce q9 _ t H1 locs1 ht _ _ hB hz hkk hS1 h1 h2 h3 => ?_) (fun r u t H1 locs1 ht _ hp hB hz hkk hS1 => ?_)
  · obtain ⟨hT1, -⟩ := zTH.join hT (by rw [← ht]; exact hB.2) (hkk oa (hT.lt (va_up_self _ _ _)) (fun z => z.2 rfl))
    rcases hB.1 with ⟨rfl, hcd⟩ | ⟨rfl, hcd⟩
    · refine vx_catch (pc := 7) hown [] ⟨0, 12, 15, 25⟩ [⟨0, 12, 19, 13⟩] (by rw [htab]; rfl) (fun z hz => by cases hz) (by decide) (by decide) (hts _ q477) (va_Nw.use (A := args) rfl (hK.2.1.2.2.1 _ _ q524)) h1 h2 h3 ?_
      have hT := hT1
      have hS := hS1
      refine lv_astore (lv' := [(5, .ref q9), (0, .ref (S.A 0)), (1, .int x), (2, .int km), (3, .int se), (4, .ref oa)]) hx hb dX0_foretell_15 hl (by decide) rfl (fun ls hl => ?_)
      refine lv_iconst (v := 1) hx hb dX0_foretell_17 (by decide) ?_
      exact vx_ret (ze_i hx hb hr hlocks hS dX0_foretell_18 (by show _ ≤ 3; omega) (by show _ ≤ 18; omega) (S, T, f0) ⟨hcd.symm, hoa, Or.inr ⟨by decide, rfl, hY⟩⟩ hT)
    · refine vx_catch (pc := 7) hown [⟨0, 12, 15, 25⟩] ⟨0, 12, 19, 13⟩ [] (by rw [htab]; rfl) (fun z hz => by simp only [List.mem_cons, List.not_mem_nil, or_false] at hz; rcases hz with rfl; exact Or.inr ⟨by decide, _, hts _ q477, hK.2.1.2.2.2.2.2.2.2.2.2.1⟩) (by decide) (by decide) (hts _ q256) (va_Nw.use (A := args) rfl (hK.2.1.2.2.1 _ _ q270)) h1 h2 h3 ?_
      have hT := hT1
      have hS := hS1
      refine lv_astore (lv' := [(5, .ref q9), (0, .ref (S.A 0)), (1, .int x), (2, .int km), (3, .int se), (4, .ref oa)]) hx hb dX0_foretell_19 hl (by decide) rfl (fun ls hl => ?_)
      refine lv_iconst (v := 2) hx hb dX0_foretell_21 (by decide) ?_
      exact vx_ret (ze_i hx hb hr hlocks hS dX0_foretell_22 (by show _ ≤ 3; omega) (by show _ ≤ 18; omega) (S, T, f0) ⟨hcd.symm, hoa, Or.inr ⟨by decide, rfl, hY⟩⟩ hT)
  · obtain ⟨⟨rfl, hc0⟩, hY1⟩ := hp
    obtain ⟨hT, hn1⟩ := zTH.join hT (by rw [← ht]; exact hB) (hkk oa (hT.lt (va_up_self _ _ _)) (fun z => z.2 rfl))
    have hS := hS1
    refine lv_i2l (v := ((m_foretell X x km se).1).toInt64) hx hb dX0_foretell_10 rfl ?_
    refine zt_lst (k := 0) hx hb hK.1 hT hS (va_up_self _ _ _) (by decide) (by decide) dX0_foretell_11 (fun H locs hT hS => ?_)
    rw [zup_up] at hT
    refine lv_goto (tgt := 23) hx hb dX0_foretell_12 (by decide) ?_
    refine lv_iconst (v := 0) hx hb dX0_foretell_23 (by decide) ?_
    exact vx_ret (ze_i hx hb hr hlocks hS dX0_foretell_24 (by show _ ≤ 3; omega) (by show _ ≤ 18; omega) (S, u, va_up f0 0 (((m_foretell X x km se).1).toInt64)) ⟨hc0.symm, hn1, Or.inl ⟨rfl, hY1, va_up_self f0 0 _, rfl⟩⟩ hT)
theorem zn_X0_bars : zN yX0_bars 3 := by decide +kernel
set_option maxHeartbeats 4000000 in
theorem ct_X0_bars (l : Launch) (hl0 : l.stackTraces = false) (g : zG) (A : Nat → Prop) (S : zS) (X : zX) (T : zT) (hY : zSy S g X T) (oa : Nat) (f0 : Nat → Int64) (hoa : T oa = none) (hI : MH X) (hC : zKo S X) (hKk : zKk S X) (hz9 : ∀ p, X 9 p = 0 ∨ X 9 p = 1) (hz10 : ∀ p, X 10 p = 0 ∨ X 10 p = 1) (hbo : ∀ t, t < mN X → X 2 t = 0 → mBo X t / 100 = nI (zre S X t 7 1)) (x : Int32) : vx_Met l yX0_bars (wsW_ yX0_bars cX0_bars 4 (some .int) [((0 : Nat), (9 : Nat), (12 : Nat), (25 : Nat)), ((0 : Nat), (9 : Nat), (15 : Nat), (13 : Nat))]) (zR 19 9 33) (zP [.ref (S.A 0), .int x, .ref oa] g A (zTH g A (va_up T oa (some (.inl (zJ g 1 f0)))))) (va_Qi (fun k (u : zS × zT × (Nat → Int64)) => k = (m_bars X x).2 0 0 ∧ u.2.1 oa = none ∧ ((k = 0 ∧ zSy u.1 g (m_bars X x).2 u.2.1 ∧ u.2.2 0 = (m_bars X x).1.toInt64 ∧ u.1 = S) ∨ (¬ k = 0 ∧ u.1 = S ∧ zSy S g X u.2.1))) (fun u t => zTH g A (va_up u.2.1 oa (some (.inl (zJ g 1 u.2.2)))) t.heap) A) (vx_X (fun (_ : Unit) => False) (fun _ _ _ => True) A) 9 33 A := by
  refine zb_wmet (by decide) (Nat.le_of_ble_eq_true rfl) ?_
  intro p e s m args below meth c ls hx hb hr hml hown hts hlocks hnm hK hT ha_ hl htab
  have hown : s.vm.findClass RX0 = some m.cls := hown
  have hS : va_S A s.heap s.heap [] := va_S.rf
  have hl : lv_has ls 4 [(0, .ref (S.A 0)), (1, .int x), (2, .ref oa)] := hl
  refine lv_aload_n hx hb dX0_bars_0 rfl (lv_at hl 2 rfl) ?_
  refine lv_iconst (v := 0) hx hb dX0_bars_1 (by decide) ?_
  refine lv_aload_n hx hb dX0_bars_2 rfl (lv_at hl 0 rfl) ?_
  refine lv_iload_n hx hb dX0_bars_3 rfl (lv_at hl 1 rfl) ?_
  have hlt0 : True := trivial
  refine vx_calli (zxr_V (As := [.int x]) (rest := [.int 0, .ref oa]) ⟨hx, hb, hml, hown, hts⟩ (ct_X1_bars l hl0 g (fun q => A q ∧ q ≠ oa) S X T hY hI hC hKk hz9 hz10 hbo x) zn_X1_bars (lw_V q990 q991 q992 q39 q993) rfl (by decide) (by decide) hK (fun q h => h.1) hS (hT.split hoa) (zt_recv hK.1 (hT.split hoa) hY.w rfl) rfl hl.1 (Nat.le_of_ble_eq_true rfl) dX0_bars_4 ⟨by show _ + 9 ≤ 9; omega, by show _ + 33 ≤ 33; omega⟩) hS (fun _ _ h => h.1) (fun _ h => h.1) (fun _ _ h => h.1) (fun E ce q9 _ t H1 locs1 ht _ _ hB hz hkk hS1 h1 h2 h3 => ?_) (fun r u t H1 locs1 ht _ hp hB hz hkk hS1 => ?_)
  · obtain ⟨hT1, -⟩ := zTH.join hT (by rw [← ht]; exact hB.2) (hkk oa (hT.lt (va_up_self _ _ _)) (fun z => z.2 rfl))
    rcases hB.1 with ⟨rfl, hcd⟩ | ⟨rfl, hcd⟩
    · refine vx_catch (pc := 4) hown [] ⟨0, 9, 12, 25⟩ [⟨0, 9, 15, 13⟩] (by rw [htab]; rfl) (fun z hz => by cases hz) (by decide) (by decide) (hts _ q477) (va_Nw.use (A := args) rfl (hK.2.1.2.2.1 _ _ q524)) h1 h2 h3 ?_
      have hT := hT1
      have hS := hS1
      refine lv_astore_n (lv' := [(3, .ref q9), (0, .ref (S.A 0)), (1, .int x), (2, .ref oa)]) hx hb dX0_bars_12 rfl hl (by decide) rfl (fun ls hl => ?_)
      refine lv_iconst (v := 1) hx hb dX0_bars_13 (by decide) ?_
      exact vx_ret (ze_i hx hb hr hlocks hS dX0_bars_14 (by show _ ≤ 9; omega) (by show _ ≤ 33; omega) (S, T, f0) ⟨hcd.symm, hoa, Or.inr ⟨by decide, rfl, hY⟩⟩ hT)
    · refine vx_catch (pc := 4) hown [⟨0, 9, 12, 25⟩] ⟨0, 9, 15, 13⟩ [] (by rw [htab]; rfl) (fun z hz => by simp only [List.mem_cons, List.not_mem_nil, or_false] at hz; rcases hz with rfl; exact Or.inr ⟨by decide, _, hts _ q477, hK.2.1.2.2.2.2.2.2.2.2.2.1⟩) (by decide) (by decide) (hts _ q256) (va_Nw.use (A := args) rfl (hK.2.1.2.2.1 _ _ q270)) h1 h2 h3 ?_
      have hT := hT1
      have hS := hS1
      refine lv_astore_n (lv' := [(3, .ref q9), (0, .ref (S.A 0)), (1, .int x), (2, .ref oa)]) hx hb dX0_bars_15 rfl hl (by decide) rfl (fun ls hl => ?_)
      refine lv_iconst (v := 2) hx hb dX0_bars_16 (by decide) ?_
      exact vx_ret (ze_i hx hb hr hlocks hS dX0_bars_17 (by show _ ≤ 9; omega) (by show _ ≤ 33; omega) (S, T, f0) ⟨hcd.symm, hoa, Or.inr ⟨by decide, rfl, hY⟩⟩ hT)
  · obtain ⟨rfl, hc0⟩ := hp
    obtain ⟨hT, hn1⟩ := zTH.join hT (by rw [← ht]; exact hB) (hkk oa (hT.lt (va_up_self _ _ _)) (fun z => z.2 rfl))
    have hS := hS1
    refine lv_i2l (v := ((m_bars X x).1).toInt64) hx hb dX0_bars_7 rfl ?_
    refine zt_lst (k := 0) hx hb hK.1 hT hS (va_up_self _ _ _) (by decide) (by decide) dX0_bars_8 (fun H locs hT hS => ?_)
    rw [zup_up] at hT
    refine lv_goto (tgt := 18) hx hb dX0_bars_9 (by decide) ?_
    refine lv_iconst (v := 0) hx hb dX0_bars_18 (by decide) ?_
    exact vx_ret (ze_i hx hb hr hlocks hS dX0_bars_19 (by show _ ≤ 9; omega) (by show _ ≤ 33; omega) (S, T, va_up f0 0 (((m_bars X x).1).toInt64)) ⟨hc0.symm, hn1, Or.inl ⟨rfl, (by unfold m_bars; split <;> exact hY.hid 0 0 _ (Or.inl rfl)), va_up_self f0 0 _, rfl⟩⟩ hT)
theorem zn_X0_barredBy : zN yX0_barredBy 3 := by decide +kernel
set_option maxHeartbeats 4000000 in
theorem ct_X0_barredBy (l : Launch) (hl0 : l.stackTraces = false) (g : zG) (A : Nat → Prop) (S : zS) (X : zX) (T : zT) (hY : zSy S g X T) (oa : Nat) (f0 : Nat → Int64) (hoa : T oa = none) (hI : MH X) (hC : zKo S X) (hKk : zKk S X) (hz9 : ∀ p, X 9 p = 0 ∨ X 9 p = 1) (hz10 : ∀ p, X 10 p = 0 ∨ X 10 p = 1) (hBB : zBB S X) (x : Int32) : vx_Met l yX0_barredBy (wsW_ yX0_barredBy cX0_barredBy 4 (some .int) [((0 : Nat), (9 : Nat), (12 : Nat), (25 : Nat)), ((0 : Nat), (9 : Nat), (15 : Nat), (13 : Nat))]) (zR 19 10 36) (zP [.ref (S.A 0), .int x, .ref oa] g A (zTH g A (va_up T oa (some (.inl (zJ g 1 f0)))))) (va_Qi (fun k (u : zS × zT × (Nat → Int64)) => k = (m_barredBy X x).2 0 0 ∧ u.2.1 oa = none ∧ ((k = 0 ∧ zSy u.1 g (m_barredBy X x).2 u.2.1 ∧ u.2.2 0 = (m_barredBy X x).1.toInt64 ∧ u.1 = S) ∨ (¬ k = 0 ∧ u.1 = S ∧ zSy S g X u.2.1))) (fun u t => zTH g A (va_up u.2.1 oa (some (.inl (zJ g 1 u.2.2)))) t.heap) A) (vx_X (fun (_ : Unit) => False) (fun _ _ _ => True) A) 10 36 A := by
  refine zb_wmet (by decide) (Nat.le_of_ble_eq_true rfl) ?_
  intro p e s m args below meth c ls hx hb hr hml hown hts hlocks hnm hK hT ha_ hl htab
  have hown : s.vm.findClass RX0 = some m.cls := hown
  have hS : va_S A s.heap s.heap [] := va_S.rf
  have hl : lv_has ls 4 [(0, .ref (S.A 0)), (1, .int x), (2, .ref oa)] := hl
  refine lv_aload_n hx hb dX0_barredBy_0 rfl (lv_at hl 2 rfl) ?_
  refine lv_iconst (v := 0) hx hb dX0_barredBy_1 (by decide) ?_
  refine lv_aload_n hx hb dX0_barredBy_2 rfl (lv_at hl 0 rfl) ?_
  refine lv_iload_n hx hb dX0_barredBy_3 rfl (lv_at hl 1 rfl) ?_
  have hlt0 : True := trivial
  refine vx_calli (zxr_V (As := [.int x]) (rest := [.int 0, .ref oa]) ⟨hx, hb, hml, hown, hts⟩ (ct_X1_barredBy l hl0 g (fun q => A q ∧ q ≠ oa) S X T hY hI hC hKk hz9 hz10 hBB x) zn_X1_barredBy (lw_V q997 q998 q999 q39 q1000) rfl (by decide) (by decide) hK (fun q h => h.1) hS (hT.split hoa) (zt_recv hK.1 (hT.split hoa) hY.w rfl) rfl hl.1 (Nat.le_of_ble_eq_true rfl) dX0_barredBy_4 ⟨by show _ + 10 ≤ 10; omega, by show _ + 36 ≤ 36; omega⟩) hS (fun _ _ h => h.1) (fun _ h => h.1) (fun _ _ h => h.1) (fun E ce q9 _ t H1 locs1 ht _ _ hB hz hkk hS1 h1 h2 h3 => ?_) (fun r u t H1 locs1 ht _ hp hB hz hkk hS1 => ?_)
  · obtain ⟨hT1, -⟩ := zTH.join hT (by rw [← ht]; exact hB.2) (hkk oa (hT.lt (va_up_self _ _ _)) (fun z => z.2 rfl))
    rcases hB.1 with ⟨rfl, hcd⟩ | ⟨rfl, hcd⟩
    · refine vx_catch (pc := 4) hown [] ⟨0, 9, 12, 25⟩ [⟨0, 9, 15, 13⟩] (by rw [htab]; rfl) (fun z hz => by cases hz) (by decide) (by decide) (hts _ q477) (va_Nw.use (A := args) rfl (hK.2.1.2.2.1 _ _ q524)) h1 h2 h3 ?_
      have hT := hT1
      have hS := hS1
      refine lv_astore_n (lv' := [(3, .ref q9), (0, .ref (S.A 0)), (1, .int x), (2, .ref oa)]) hx hb dX0_barredBy_12 rfl hl (by decide) rfl (fun ls hl => ?_)
      refine lv_iconst (v := 1) hx hb dX0_barredBy_13 (by decide) ?_
      exact vx_ret (ze_i hx hb hr hlocks hS dX0_barredBy_14 (by show _ ≤ 10; omega) (by show _ ≤ 36; omega) (S, T, f0) ⟨hcd.symm, hoa, Or.inr ⟨by decide, rfl, hY⟩⟩ hT)
    · refine vx_catch (pc := 4) hown [⟨0, 9, 12, 25⟩] ⟨0, 9, 15, 13⟩ [] (by rw [htab]; rfl) (fun z hz => by simp only [List.mem_cons, List.not_mem_nil, or_false] at hz; rcases hz with rfl; exact Or.inr ⟨by decide, _, hts _ q477, hK.2.1.2.2.2.2.2.2.2.2.2.1⟩) (by decide) (by decide) (hts _ q256) (va_Nw.use (A := args) rfl (hK.2.1.2.2.1 _ _ q270)) h1 h2 h3 ?_
      have hT := hT1
      have hS := hS1
      refine lv_astore_n (lv' := [(3, .ref q9), (0, .ref (S.A 0)), (1, .int x), (2, .ref oa)]) hx hb dX0_barredBy_15 rfl hl (by decide) rfl (fun ls hl => ?_)
      refine lv_iconst (v := 2) hx hb dX0_barredBy_16 (by decide) ?_
      exact vx_ret (ze_i hx hb hr hlocks hS dX0_barredBy_17 (by show _ ≤ 10; omega) (by show _ ≤ 36; omega) (S, T, f0) ⟨hcd.symm, hoa, Or.inr ⟨by decide, rfl, hY⟩⟩ hT)
  · obtain ⟨⟨rfl, hc0⟩, hY1⟩ := hp
    obtain ⟨hT, hn1⟩ := zTH.join hT (by rw [← ht]; exact hB) (hkk oa (hT.lt (va_up_self _ _ _)) (fun z => z.2 rfl))
    have hS := hS1
    refine lv_i2l (v := ((m_barredBy X x).1).toInt64) hx hb dX0_barredBy_7 rfl ?_
    refine zt_lst (k := 0) hx hb hK.1 hT hS (va_up_self _ _ _) (by decide) (by decide) dX0_barredBy_8 (fun H locs hT hS => ?_)
    rw [zup_up] at hT
    refine lv_goto (tgt := 18) hx hb dX0_barredBy_9 (by decide) ?_
    refine lv_iconst (v := 0) hx hb dX0_barredBy_18 (by decide) ?_
    exact vx_ret (ze_i hx hb hr hlocks hS dX0_barredBy_19 (by show _ ≤ 10; omega) (by show _ ≤ 36; omega) (S, u, va_up f0 0 (((m_barredBy X x).1).toInt64)) ⟨hc0.symm, hn1, Or.inl ⟨rfl, hY1, va_up_self f0 0 _, rfl⟩⟩ hT)
theorem zn_X0_isReleased : zN yX0_isReleased 3 := by decide +kernel
set_option maxHeartbeats 4000000 in
theorem ct_X0_isReleased (l : Launch) (hl0 : l.stackTraces = false) (g : zG) (A : Nat → Prop) (S : zS) (X : zX) (T : zT) (hY : zSy S g X T) (oa : Nat) (f0 : Nat → Int64) (hoa : T oa = none) (hI : MH X) (hz11 : ∀ p, X 11 p = 0 ∨ X 11 p = 1) (x : Int32) : vx_Met l yX0_isReleased (wsW_ yX0_isReleased cX0_isReleased 4 (some .int) [((0 : Nat), (16 : Nat), (19 : Nat), (25 : Nat)), ((0 : Nat), (16 : Nat), (22 : Nat), (13 : Nat))]) (zR 10 2 12) (zP [.ref (S.A 0), .int x, .ref oa] g A (zTH g A (va_up T oa (some (.inl (zJ g 1 f0)))))) (va_Qi (fun k (u : zS × zT × (Nat → Int64)) => k = mKc X x 0 ∧ u.2.1 oa = none ∧ ((k = 0 ∧ zSy u.1 g (zu X 0 0 (mKc X x 0)) u.2.1 ∧ u.2.2 0 = (if m_isRel X x = true then 1 else 0) ∧ u.1 = S) ∨ (¬ k = 0 ∧ u.1 = S ∧ zSy S g X u.2.1))) (fun u t => zTH g A (va_up u.2.1 oa (some (.inl (zJ g 1 u.2.2)))) t.heap) A) (vx_X (fun (_ : Unit) => False) (fun _ _ _ => True) A) 2 12 A := by
  refine zb_wmet (by decide) (Nat.le_of_ble_eq_true rfl) ?_
  intro p e s m args below meth c ls hx hb hr hml hown hts hlocks hnm hK hT ha_ hl htab
  have hown : s.vm.findClass RX0 = some m.cls := hown
  have hS : va_S A s.heap s.heap [] := va_S.rf
  have hl : lv_has ls 4 [(0, .ref (S.A 0)), (1, .int x), (2, .ref oa)] := hl
  refine lv_aload_n hx hb dX0_isReleased_0 rfl (lv_at hl 2 rfl) ?_
  refine lv_iconst (v := 0) hx hb dX0_isReleased_1 (by decide) ?_
  refine lv_aload_n hx hb dX0_isReleased_2 rfl (lv_at hl 0 rfl) ?_
  refine lv_iload_n hx hb dX0_isReleased_3 rfl (lv_at hl 1 rfl) ?_
  have hlt0 : True := trivial
  refine vx_calli (zxr_V (As := [.int x]) (rest := [.int 0, .ref oa]) ⟨hx, hb, hml, hown, hts⟩ (ct_X1_isReleased l hl0 g (fun q => A q ∧ q ≠ oa) S X T hY hI hz11 x) zn_X1_isReleased (lw_V q1004 q1005 q1006 q39 q1007) rfl (by decide) (by decide) hK (fun q h => h.1) hS (hT.split hoa) (zt_recv hK.1 (hT.split hoa) hY.w rfl) rfl hl.1 (Nat.le_of_ble_eq_true rfl) dX0_isReleased_4 ⟨by show _ + 2 ≤ 2; omega, by show _ + 12 ≤ 12; omega⟩) hS (fun _ _ h => h.1) (fun _ h => h.1) (fun _ _ h => h.1) (fun E ce q9 _ t H1 locs1 ht _ _ hB hz hkk hS1 h1 h2 h3 => ?_) (fun r u t H1 locs1 ht _ hp hB hz hkk hS1 => ?_)
  · obtain ⟨hT1, -⟩ := zTH.join hT (by rw [← ht]; exact hB.2) (hkk oa (hT.lt (va_up_self _ _ _)) (fun z => z.2 rfl))
    rcases hB.1 with ⟨rfl, hcd⟩ | ⟨rfl, hcd⟩
    · refine vx_catch (pc := 4) hown [] ⟨0, 16, 19, 25⟩ [⟨0, 16, 22, 13⟩] (by rw [htab]; rfl) (fun z hz => by cases hz) (by decide) (by decide) (hts _ q477) (va_Nw.use (A := args) rfl (hK.2.1.2.2.1 _ _ q524)) h1 h2 h3 ?_
      have hT := hT1
      have hS := hS1
      refine lv_astore_n (lv' := [(3, .ref q9), (0, .ref (S.A 0)), (1, .int x), (2, .ref oa)]) hx hb dX0_isReleased_19 rfl hl (by decide) rfl (fun ls hl => ?_)
      refine lv_iconst (v := 1) hx hb dX0_isReleased_20 (by decide) ?_
      exact vx_ret (ze_i hx hb hr hlocks hS dX0_isReleased_21 (by show _ ≤ 2; omega) (by show _ ≤ 12; omega) (S, T, f0) ⟨hcd.symm, hoa, Or.inr ⟨by decide, rfl, hY⟩⟩ hT)
    · refine vx_catch (pc := 4) hown [⟨0, 16, 19, 25⟩] ⟨0, 16, 22, 13⟩ [] (by rw [htab]; rfl) (fun z hz => by simp only [List.mem_cons, List.not_mem_nil, or_false] at hz; rcases hz with rfl; exact Or.inr ⟨by decide, _, hts _ q477, hK.2.1.2.2.2.2.2.2.2.2.2.1⟩) (by decide) (by decide) (hts _ q256) (va_Nw.use (A := args) rfl (hK.2.1.2.2.1 _ _ q270)) h1 h2 h3 ?_
      have hT := hT1
      have hS := hS1
      refine lv_astore_n (lv' := [(3, .ref q9), (0, .ref (S.A 0)), (1, .int x), (2, .ref oa)]) hx hb dX0_isReleased_22 rfl hl (by decide) rfl (fun ls hl => ?_)
      refine lv_iconst (v := 2) hx hb dX0_isReleased_23 (by decide) ?_
      exact vx_ret (ze_i hx hb hr hlocks hS dX0_isReleased_24 (by show _ ≤ 2; omega) (by show _ ≤ 12; omega) (S, T, f0) ⟨hcd.symm, hoa, Or.inr ⟨by decide, rfl, hY⟩⟩ hT)
  · obtain ⟨rfl, hc0⟩ := hp
    obtain ⟨hT, hn1⟩ := zTH.join hT (by rw [← ht]; exact hB) (hkk oa (hT.lt (va_up_self _ _ _)) (fun z => z.2 rfl))
    have hS := hS1
    refine zl_ifeq (tgt := 14) hx hb dX0_isReleased_7 (by decide) (fun c_1 => ?_) (fun c_1 => ?_)
    · refine lv_lconst (v := 0) hx hb dX0_isReleased_14 (by decide) ?_
      refine zt_lst (k := 0) hx hb hK.1 hT hS (va_up_self _ _ _) (by decide) (by decide) dX0_isReleased_15 (fun H locs hT hS => ?_)
      rw [zup_up] at hT
      refine lv_goto (tgt := 25) hx hb dX0_isReleased_16 (by decide) ?_
      refine lv_iconst (v := 0) hx hb dX0_isReleased_25 (by decide) ?_
      exact vx_ret (ze_i hx hb hr hlocks hS dX0_isReleased_26 (by show _ ≤ 2; omega) (by show _ ≤ 12; omega) (S, T, va_up f0 0 (0)) ⟨hc0.symm, hn1, Or.inl ⟨rfl, hY.hid 0 0 _ (Or.inl rfl), (by simp [va_up, c_1]), rfl⟩⟩ hT)
    · refine lv_lconst (v := 1) hx hb dX0_isReleased_10 (by decide) ?_
      refine lv_goto (tgt := 15) hx hb dX0_isReleased_11 (by decide) ?_
      refine zt_lst (k := 0) hx hb hK.1 hT hS (va_up_self _ _ _) (by decide) (by decide) dX0_isReleased_15 (fun H locs hT hS => ?_)
      rw [zup_up] at hT
      refine lv_goto (tgt := 25) hx hb dX0_isReleased_16 (by decide) ?_
      refine lv_iconst (v := 0) hx hb dX0_isReleased_25 (by decide) ?_
      exact vx_ret (ze_i hx hb hr hlocks hS dX0_isReleased_26 (by show _ ≤ 2; omega) (by show _ ≤ 12; omega) (S, T, va_up f0 0 (1)) ⟨hc0.symm, hn1, Or.inl ⟨rfl, hY.hid 0 0 _ (Or.inl rfl), (by simp [va_up, c_1]), rfl⟩⟩ hT)
theorem zn_X0_road : zN yX0_road 4 := by decide +kernel
set_option maxHeartbeats 4000000 in
theorem ct_X0_road (l : Launch) (hl0 : l.stackTraces = false) (g : zG) (A : Nat → Prop) (S : zS) (X : zX) (T : zT) (hY : zSy S g X T) (oa : Nat) (f0 : Nat → Int64) (hoa : T oa = none) (hW : zWo S X) (hRl : ∀ r, r < 3 → (S.Rd r).length = mR X r) (hRe : ∀ r, r < 3 → ∀ k e, (S.Rd r)[k]? = some e → X 32 (4 * r + k) = nI e.2.1) (ro pl : Int32) : vx_Met l yX0_road (wsW_ yX0_road cX0_road 5 (some .int) [((0 : Nat), (10 : Nat), (13 : Nat), (25 : Nat))]) (zR 8 1 6) (zP [.ref (S.A 0), .int ro, .int pl, .ref oa] g A (zTH g A (va_up T oa (some (.inl (zJ g 1 f0)))))) (va_Qi (fun k (u : zS × zT × (Nat → Int64)) => k = (m_road X ro pl).2 0 0 ∧ u.2.1 oa = none ∧ ((k = 0 ∧ zSy u.1 g (m_road X ro pl).2 u.2.1 ∧ u.2.2 0 = (m_road X ro pl).1.toInt64 ∧ u.1 = S) ∨ (¬ k = 0 ∧ u.1 = S ∧ zSy S g X u.2.1))) (fun u t => zTH g A (va_up u.2.1 oa (some (.inl (zJ g 1 u.2.2)))) t.heap) A) (vx_X (fun (_ : Unit) => False) (fun _ _ _ => True) A) 1 6 A := by
  refine zb_wmet (by decide) (Nat.le_of_ble_eq_true rfl) ?_
  intro p e s m args below meth c ls hx hb hr hml hown hts hlocks hnm hK hT ha_ hl htab
  have hown : s.vm.findClass RX0 = some m.cls := hown
  have hS : va_S A s.heap s.heap [] := va_S.rf
  have hl : lv_has ls 5 [(0, .ref (S.A 0)), (1, .int ro), (2, .int pl), (3, .ref oa)] := hl
  refine lv_aload_n hx hb dX0_road_0 rfl (lv_at hl 3 rfl) ?_
  refine lv_iconst (v := 0) hx hb dX0_road_1 (by decide) ?_
  refine lv_aload_n hx hb dX0_road_2 rfl (lv_at hl 0 rfl) ?_
  refine lv_iload_n hx hb dX0_road_3 rfl (lv_at hl 1 rfl) ?_
  refine lv_iload_n hx hb dX0_road_4 rfl (lv_at hl 2 rfl) ?_
  have hlt0 : True := trivial
  refine vx_calli (zxr_V (As := [.int ro, .int pl]) (rest := [.int 0, .ref oa]) ⟨hx, hb, hml, hown, hts⟩ (ct_X1_road l hl0 g (fun q => A q ∧ q ≠ oa) S X T hY hW hRl hRe ro pl) zn_X1_road (lw_V q1011 q1012 q1013 q39 q1014) rfl (by decide) (by decide) hK (fun q h => h.1) hS (hT.split hoa) (zt_recv hK.1 (hT.split hoa) hY.w rfl) rfl hl.1 (Nat.le_of_ble_eq_true rfl) dX0_road_5 ⟨by show _ + 1 ≤ 1; omega, by show _ + 6 ≤ 6; omega⟩) hS (fun _ _ h => h.1) (fun _ h => h.1) (fun _ _ h => h.1) (fun E ce q9 _ t H1 locs1 ht _ _ hB hz hkk hS1 h1 h2 h3 => ?_) (fun r u t H1 locs1 ht _ hp hB hz hkk hS1 => ?_)
  · obtain ⟨hT1, -⟩ := zTH.join hT (by rw [← ht]; exact hB.2) (hkk oa (hT.lt (va_up_self _ _ _)) (fun z => z.2 rfl))
    obtain ⟨rfl, hcd⟩ := hB.1
    refine vx_catch (pc := 5) hown [] ⟨0, 10, 13, 25⟩ [] (by rw [htab]; rfl) (fun z hz => by cases hz) (by decide) (by decide) (hts _ q477) (va_Nw.use (A := args) rfl (hK.2.1.2.2.1 _ _ q524)) h1 h2 h3 ?_
    have hT := hT1
    have hS := hS1
    refine lv_astore (lv' := [(4, .ref q9), (0, .ref (S.A 0)), (1, .int ro), (2, .int pl), (3, .ref oa)]) hx hb dX0_road_13 hl (by decide) rfl (fun ls hl => ?_)
    refine lv_iconst (v := 1) hx hb dX0_road_15 (by decide) ?_
    exact vx_ret (ze_i hx hb hr hlocks hS dX0_road_16 (by show _ ≤ 1; omega) (by show _ ≤ 6; omega) (S, T, f0) ⟨hcd.symm, hoa, Or.inr ⟨by decide, rfl, hY⟩⟩ hT)
  · obtain ⟨⟨rfl, hc0⟩, hY1⟩ := hp
    obtain ⟨hT, hn1⟩ := zTH.join hT (by rw [← ht]; exact hB) (hkk oa (hT.lt (va_up_self _ _ _)) (fun z => z.2 rfl))
    have hS := hS1
    refine lv_i2l (v := ((m_road X ro pl).1).toInt64) hx hb dX0_road_8 rfl ?_
    refine zt_lst (k := 0) hx hb hK.1 hT hS (va_up_self _ _ _) (by decide) (by decide) dX0_road_9 (fun H locs hT hS => ?_)
    rw [zup_up] at hT
    refine lv_goto (tgt := 17) hx hb dX0_road_10 (by decide) ?_
    refine lv_iconst (v := 0) hx hb dX0_road_17 (by decide) ?_
    exact vx_ret (ze_i hx hb hr hlocks hS dX0_road_18 (by show _ ≤ 1; omega) (by show _ ≤ 6; omega) (S, u, va_up f0 0 (((m_road X ro pl).1).toInt64)) ⟨hc0.symm, hn1, Or.inl ⟨rfl, hY1, va_up_self f0 0 _, rfl⟩⟩ hT)
