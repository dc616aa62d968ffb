theorem zn_X1_bars : zN yX1_bars 1 := by decide +kernel
set_option maxHeartbeats 4000000 in
theorem ct_X1_bars (l : Launch) (hl0 : l.stackTraces = false) (g : zG) (A : Nat → Prop) (S : zS) (X : zX) (T : zT) (hY : zSy S g X T) (hI : MH X) (hC : zKo S X) (hKk : zKk S X) (hz9 : ∀ p, X 9 p = 0 ∨ X 9 p = 1) (hz10 : ∀ p, X 10 p = 0 ∨ X 10 p = 1) (hbo : ∀ t, t < mN X → X 2 t = 0 → mBo X t / 100 = nI (zre S X t 7 1)) (x : Int32) : vx_Met l yX1_bars (ws_ yX1_bars cX1_bars 2 (some .int)) (zR 18 9 33) (zP [.ref (S.A 0), .int x] g A (zTH g A T)) (va_Qi (fun rz_ (_ : Unit) => rz_ = (m_bars X x).1 ∧ (m_bars X x).2 0 0 = 0) (fun (_ : Unit) t => zTH g A T t.heap) A) (zXC (fun E => (E = xIO ∧ (m_bars X x).2 0 0 = 1) ∨ (E = xIA ∧ (m_bars X x).2 0 0 = 2)) g A T) 9 33 A := by
  refine zb_xmet (by decide) (Nat.le_of_ble_eq_true rfl) ?_
  intro p e s m args below meth c ls hx hb hr hml hown hts hlocks hnm hK hT ha_ hl hout
  have hown : s.vm.findClass RX1 = some m.cls := hown
  have hS : va_S A s.heap s.heap [] := va_S.rf
  have hl : lv_has ls 2 [(0, .ref (S.A 0)), (1, .int x)] := hl
  refine lv_aload_n hx hb dX1_bars_0 rfl (lv_at hl 0 rfl) ?_
  refine lv_aload_n hx hb dX1_bars_1 rfl (lv_at hl 0 rfl) ?_
  refine lv_iload_n hx hb dX1_bars_2 rfl (lv_at hl 1 rfl) ?_
  refine lv_iconst (v := 0) hx hb dX1_bars_3 (by decide) ?_
  refine zxc_q (zxr_V (As := [.int x, .int 0]) (rest := [.ref (S.A 0)]) ⟨hx, hb, hml, hown, hts⟩ (ct_X1_needKind l hl0 g A S X _ hY hI x 0) zn_X1_needKind (lw_V q642 q644 qs9 q39 q645) rfl (by decide) (by decide) hK (fun _ h => h) hS hT (zt_recv hK.1 hT hY.w rfl) rfl hl.1 (Nat.le_of_ble_eq_true rfl) dX1_bars_4 ⟨by show _ + 2 ≤ _; omega, by show _ + 12 ≤ _; omega⟩) hS hout hlocks (fun E hE => by rcases hE with ⟨rfl, h0⟩ | ⟨rfl, h0, h1⟩; exact Or.inl ⟨rfl, by unfold m_bars; rw [if_pos (by rw [mKc_1 _ h0]; decide), mKc_1 _ h0]; exact zu_s X 0 0 1⟩; exact Or.inr ⟨rfl, by unfold m_bars; rw [if_pos (by rw [mKc_2 h0 h1]; decide), mKc_2 h0 h1]; exact zu_s X 0 0 2⟩) (by show _ + 2 ≤ 9; omega) (by show _ + 12 ≤ 33; omega) (fun r _ H locs hr_1 hT _ _ hS => ?_)
  obtain ⟨rfl, hm_2, hk_3⟩ := hr_1
  obtain ⟨hq_4, hq_5⟩ := mIs_p hI hm_2
  have hkc : mKc X x 0 = 0 := mKc_0 hm_2 hk_3
  refine zm_top (v' := .ref (S.pa x.toNatClampNeg)) rfl ?_
  refine zc_i (zr_V (As := [.ref (S.pa x.toNatClampNeg)]) (rest := []) ⟨hx, hb, hml, hown, hts⟩ (ct_X1_reasonOf l g A S X _ hY hI hC hKk hz9 hz10 x.toNatClampNeg hq_5) zn_X1_reasonOf (lw_V q858 q860 qs12 q39 q861) rfl (by decide) (by decide) hK (fun _ h => h) hS hT (zt_recv hK.1 hT hY.w rfl) rfl hl.1 (Nat.le_of_ble_eq_true rfl) dX1_bars_7 ⟨by show _ + 7 ≤ _; omega, by show _ + 21 ≤ _; omega⟩) hS (fun _ h => h) (fun r _ H locs hr1 hT _ _ hS => ?_)
  subst hr1
  have e1 : nI (zre S X x.toNatClampNeg 7 1) = (m_bars X x).1 ∧ (m_bars X x).2 0 0 = 0 := by unfold m_bars; rw [if_neg (fun z => z hkc)]; exact ⟨(hbo _ hq_5 hk_3).symm, zu_s X 0 0 0⟩
  exact vx_ret (ze_i hx hb hr hlocks hS dX1_bars_10 (by show _ ≤ 9; omega) (by show _ ≤ 33; omega) () e1 hT)
