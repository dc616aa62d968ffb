/-! out: what was first so far -/
def zsA (S : zS) (s : Option (Nat × Nat)) : Option Nat := s.bind (fun q => ((S.Rd q.1)[q.2]?).map (fun e => e.1))
def zsI (S : zS) (s : Option (Nat × Nat)) : Option Nat := s.map (fun q => S.A (11 + q.1))
theorem zsA_s {S : zS} {q : Nat × Nat} {e : zC3} (h : (S.Rd q.1)[q.2]? = some e) : zsA S (some q) = some e.1 := by
  show ((S.Rd q.1)[q.2]?).map _ = _
  rw [h]; rfl
theorem zo1_n {X : zX} {r : Nat} {s : Option (Nat × Nat)} : ∀ k, zo1 X r s k = none → s = none ∧ k = 0 := by
  intro k
  cases k with
  | zero => intro h; exact ⟨h, rfl⟩
  | succ k =>
    intro h
    have h : zos X r k (zo1 X r s k) = none := h
    unfold zos at h
    split at h
    · cases h
    · split at h <;> cases h
theorem zo2_n {X : zX} (h : zo2 X 3 = none) : mR X 0 = 0 ∧ mR X 1 = 0 ∧ mR X 2 = 0 := by
  have h2 := zo1_n _ (show zo1 X 2 (zo2 X 2) (mR X 2) = none from h)
  have h1 := zo1_n _ (show zo1 X 1 (zo2 X 1) (mR X 1) = none from h2.1)
  have h0 := zo1_n _ (show zo1 X 0 (zo2 X 0) (mR X 0) = none from h1.1)
  exact ⟨h0.2, h1.2, h2.2⟩
theorem zo2_z {X : zX} (h0 : mR X 0 = 0) (h1 : mR X 1 = 0) (h2 : mR X 2 = 0) : zo2 X 3 = none := by
  show zo1 X 2 (zo1 X 1 (zo1 X 0 none (mR X 0)) (mR X 1)) (mR X 2) = none
  rw [h0, h1, h2]; rfl
theorem zos_lt {X : zX} {r k : Nat} {q : Nat × Nat} (h : ¬ mTm X q.1 q.2 ≤ mTm X r k) : zos X r k (some q) = some (r, k) := by
  show (if ¬ mTm X q.1 q.2 ≤ mTm X r k then _ else _) = _
  rw [if_pos h]
theorem zos_ge {X : zX} {r k : Nat} {q : Nat × Nat} (h : mTm X q.1 q.2 ≤ mTm X r k) : zos X r k (some q) = some q := by
  show (if ¬ mTm X q.1 q.2 ≤ mTm X r k then _ else _) = _
  rw [if_neg (fun z => z h)]

theorem zn_X1_out : zN yX1_out 0 := by decide +kernel
set_option maxHeartbeats 4000000 in
theorem ct_X1_out (l : Launch) (hl0 : l.stackTraces = false) (g : zG) (A : Nat → Prop) (S : zS) (X : zX) (T_0 : zT) (hY : zSy S g X T_0) (hI : MH X) (hW : zWo S X) (hRl : ∀ r, r < 3 → (S.Rd r).length = mR X r) (hRe : ∀ r, r < 3 → ∀ (k : Nat) (e : zC3), (S.Rd r)[k]? = some e → X 32 (4 * r + k) = nI e.2.1) (hRt : ∀ r, r < 3 → ∀ (k : Nat) (e : zC3), (S.Rd r)[k]? = some e → mTm X r k = e.2.2) (hRn : ∀ r, r < 3 → ∀ (i j : Nat) (ei ej : zC3), (S.Rd r)[i]? = some ei → (S.Rd r)[j]? = some ej → ei.2.1 = ej.2.1 → i = j) : vx_Met l yX1_out (ws_ yX1_out cX1_out 8 (some .int)) (zR 7 8 40) (zP [.ref (S.A 0)] g A (zTH g A T_0)) (va_Qi (fun rz_ (u : zS × zT) => (rz_ = (m_out X).1 ∧ (m_out X).2 0 0 = 0) ∧ zSy u.1 g (m_out X).2 u.2 ∧ ∃ q, zo2 X 3 = some q ∧ u.1 = S.rS q.1 ((S.Rd q.1).eraseIdx q.2)) (fun u t => zTH g A u.2 t.heap) A) (zXC (fun E => E = xIS ∧ (m_out X).2 0 0 = 1) g A T_0) 8 40 A := by
  refine zb_xmet (by decide) (Nat.le_of_ble_eq_true rfl) ?_
  intro p e s m args below meth c ls hx hb hr hml hown hts hlocks hnm hK hT ha_ hl hout
  have hown : s.vm.findClass RX1 = some m.cls := hown
  have hS : va_S A s.heap s.heap [] := va_S.rf
  have hl : lv_has ls 8 [(0, .ref (S.A 0))] := hl
  refine lv_aload_n hx hb dX1_out_0 rfl (lv_at hl 0 rfl) ?_
  refine zc_i (zr_V (As := []) (rest := []) ⟨hx, hb, hml, hown, hts⟩ (ct_X1_isEmpty l g A S X _ hY ) zn_X1_isEmpty (lw_V q914 q916 qs15 q39 q917) rfl (by decide) (by decide) hK (fun _ h => h) hS hT (zt_recv hK.1 hT hY.w rfl) rfl hl.1 (Nat.le_of_ble_eq_true rfl) dX1_out_1 ⟨by show _ + 0 ≤ _; omega, by show _ + 0 ≤ _; omega⟩) hS (fun _ h => h) (fun r _ H locs hr_1 hT _ _ hS => ?_)
  subst hr_1
  refine zl_ifne (tgt := 11) hx hb dX1_out_4 (by decide) (fun c_2 => ?_) (fun c_2 => ?_)
  · refine lv_iconst (v := 0) hx hb dX1_out_11 (by decide) ?_
    refine zm_topi (y := zb false) rfl ?_
    refine zxc_v (zxr_S (As := [.int (zb false)]) (rest := []) ⟨hx, hb, hml, hown, hts⟩ (ct_X1_needState l hl0 g A _ false) zn_X1_needState (lw_S q338 q339 q39 q340) (by decide) (by decide) hK (fun _ h => h) hS hT rfl hl.1 (Nat.le_of_ble_eq_true rfl) dX1_out_12 ⟨by show _ + 1 ≤ _; omega, by show _ + 6 ≤ _; omega⟩) hS hout hlocks (fun E hE => by obtain ⟨rfl, h0⟩ := hE; first | exact absurd h0 (by decide) | exact ⟨rfl, by have h := c_2; unfold zmt at h; simp [hRl 0 (by decide), hRl 1 (by decide), hRl 2 (by decide)] at h; unfold m_out; rw [zo2_z h.1.1 h.1.2 h.2]; exact zu_s X 0 0 1⟩) (by show _ + 1 ≤ 8; omega) (by show _ + 6 ≤ 40; omega) (fun _ H locs hx_3 hT _ _ hS => ?_)
    cases hx_3
  · refine lv_iconst (v := 1) hx hb dX1_out_7 (by decide) ?_
    refine lv_goto (tgt := 12) hx hb dX1_out_8 (by decide) ?_
    refine zm_topi (y := zb true) rfl ?_
    refine zxc_v (zxr_S (As := [.int (zb true)]) (rest := []) ⟨hx, hb, hml, hown, hts⟩ (ct_X1_needState l hl0 g A _ true) zn_X1_needState (lw_S q338 q339 q39 q340) (by decide) (by decide) hK (fun _ h => h) hS hT rfl hl.1 (Nat.le_of_ble_eq_true rfl) dX1_out_12 ⟨by show _ + 1 ≤ _; omega, by show _ + 6 ≤ _; omega⟩) hS hout hlocks (fun E hE => by obtain ⟨rfl, h0⟩ := hE; first | exact absurd h0 (by decide) | exact ⟨rfl, by have h := c_2; unfold zmt at h; simp [hRl 0 (by decide), hRl 1 (by decide), hRl 2 (by decide)] at h; unfold m_out; rw [zo2_z h.1.1 h.1.2 h.2]; exact zu_s X 0 0 1⟩) (by show _ + 1 ≤ 8; omega) (by show _ + 6 ≤ 40; omega) (fun _ H locs hx_4 hT _ _ hS => ?_)
    refine lv_null hx hb dX1_out_15 ?_
    refine lv_astore_nN (lv' := [(1, .null), (0, .ref (S.A 0))]) hx hb dX1_out_16 rfl hl (by decide) rfl (fun ls hl => ?_)
    refine lv_null hx hb dX1_out_17 ?_
    refine lv_astore_nN (lv' := [(2, .null), (1, .null), (0, .ref (S.A 0))]) hx hb dX1_out_18 rfl hl (by decide) rfl (fun ls hl => ?_)
    refine lv_aload_n hx hb dX1_out_19 rfl (lv_at hl 2 rfl) ?_
    refine zt_get hx hb hts in_X1 hown hK.1 hT hY.w rfl 6 (by decide) (hts _ q183) (fun _ h => h) rfl dX1_out_20 ?_
    refine zc_q (zr_V (As := []) (rest := []) ⟨hx, hb, hml, hown, hts⟩ (ct_J2_iterator l g A _ _ _ _ hY.rds) zn_J2_iterator (lw_V q745 q746 q747 q43 q748) rfl (by decide) (by decide) hK (fun _ h => h) hS hT (zt_recvL hK.1 hT hY.rds) rfl hl.1 (Nat.le_of_ble_eq_true rfl) dX1_out_23 ⟨by show _ + 1 ≤ _; omega, by show _ + 4 ≤ _; omega⟩) hS (fun _ h => h) (fun r it H locs hr1 hT _ _ hS => ?_)
    obtain ⟨rfl, hnit⟩ := hr1
    obtain ⟨T, hT, hY, hit⟩ : ∃ T1, zTH g A T1 H ∧ zSy S g X T1 ∧ T1 it = some (.inl (zo 10 [.int (nI 0), .int (-1), .int (S.mu 8), .ref (S.A 8)])) := ⟨_, hT, hY.fresh hnit _, va_up_self _ _ _⟩
    refine zm_top (v' := .ref it) rfl ?_
    refine lv_astore_n (lv' := [(3, .ref it), (2, .null), (1, .null), (0, .ref (S.A 0))]) hx hb dX1_out_26 rfl hl (by decide) rfl (fun ls hl => ?_)
    have L_6 : ∀ (n_5 : Nat) (r : Nat) (lr : Int32) (T : zT), (4 - r) < n_5 → (r ≤ 3) → (T it = some (.inl (zo 10 [.int (nI r), .int lr, .int (S.mu 8), .ref (S.A 8)]))) → (zSy S g X T) → ∀ (H : Heap) (locs : List Loc) (ls : Array Slot), zTH g A T H → va_S A s.heap H locs → lv_has ls 8 [(3, .ref it), (2, va_rf (zsI S (zo2 X r))), (1, va_rf (zsA S (zo2 X r))), (0, .ref (S.A 0))] → W p l e (zR 7 8 40) s m args below meth c H locs (2 + r) (10 + 4 * r) (vx_MQ below (va_Qi (fun rz_ (u : zS × zT) => (rz_ = (m_out X).1 ∧ (m_out X).2 0 0 = 0) ∧ zSy u.1 g (m_out X).2 u.2 ∧ ∃ q, zo2 X 3 = some q ∧ u.1 = S.rS q.1 ((S.Rd q.1).eraseIdx q.2)) (fun u t => zTH g A u.2 t.heap) A) (zXC (fun E => E = xIS ∧ (m_out X).2 0 0 = 1) g A T_0) args s 8 40 A) (F0 m 27 ls []) := by
      intro n_5
      induction n_5 with
      | zero => intro r lr T hm; exact absurd hm (Nat.not_lt_zero _)
      | succ n_5 ih =>
        intro r lr T hm hr3 hit hY H locs ls hT hS hl
        have ih_7 := ih
        refine lv_aload_n hx hb dX1_out_27 rfl (lv_at hl 0 rfl) ?_
        refine zc5_i (zr_F (As := []) (rest := []) (hK.1.1 10 _ rfl).2 ⟨hx, hb, hml, hown, hts⟩ (ct_J16_hasNext l g A _ _ _ _ hY.rds it r _ hit (by first | (simp; done) | (simp; omega)) (by first | (simp; done) | (simp; omega))) zn_F_has (lw_F q769 q773 q775 q63 q777) hK.2.1.2.2.2.2.2.2.2.1 (by decide) (by decide) hK (fun _ h => h) hS hT (zt_recv hK.1 hT hit rfl) rfl hl.1 (Nat.le_of_ble_eq_true rfl) dX1_out_28 ⟨by show _ + 0 ≤ _; omega, by show _ + 0 ≤ _; omega⟩) hS (fun _ h => h) (fun r _ H locs hr1 hT _ _ hS => ?_)
        subst hr1
        refine zm_topi (y := zb (decide (r < 3))) (by simp) ?_
        refine zl_ifeq (tgt := 129) hx hb dX1_out_33 (by decide) (fun c_8 => ?_) (fun c_8 => ?_)
        · have hr3e : r = 3 := by have := of_decide_eq_false c_8; omega
          subst hr3e
          obtain ⟨sl, esl⟩ : ∃ sl, sl = zo2 X 3 := ⟨_, rfl⟩
          rw [← esl] at hl
          rcases sl with _ | q0
          · exact absurd (show zmt S = true from by obtain ⟨a0, a1, a2⟩ := zo2_n esl.symm; unfold zmt; rw [hRl 0 (by decide), hRl 1 (by decide), hRl 2 (by decide), a0, a1, a2]; rfl) (by rw [c_2]; decide)
          obtain ⟨hq1, hq2⟩ : q0.1 < 3 ∧ q0.2 < (S.Rd q0.1).length := by have h := zo2_ok 3 q0 esl.symm; exact ⟨h.1, by rw [hRl _ h.1]; exact h.2⟩
          obtain ⟨e0, he0⟩ : ∃ e, (S.Rd q0.1)[q0.2]? = some e := ⟨_, List.getElem?_eq_getElem hq2⟩
          have hem0 := List.mem_of_getElem? he0
          have hep0 := (hW.2 _ hq1).2 e0 hem0
          have hec0 := hY.rd _ hq1 e0 hem0
          unfold zCg at hec0
          have za : zsA S (some q0) = some e0.1 := zsA_s he0
          have hl : lv_has ls 8 [(3, .ref it), (2, .ref (S.A (11 + q0.1))), (1, .ref e0.1), (0, .ref (S.A 0))] := by rw [za] at hl; exact hl
          have hl4 := (hW.2 _ hq1).1
          have hfst : ∀ j, j < q0.2 → ((S.Rd q0.1).map (fun e => some e.1))[j]? ≠ some (some e0.1) := fun j hj z => by
            rw [List.getElem?_map] at z; obtain ⟨e2, hq, hq2⟩ := Option.map_eq_some_iff.mp z
            have h2 := hY.rd _ hq1 e2 (List.mem_of_getElem? hq); unfold zCg at h2; rw [show e2.1 = e0.1 from Option.some.inj hq2, hec0] at h2
            have h3 := hY.pinj hep0 ((hW.2 _ hq1).2 e2 (List.mem_of_getElem? hq)) (by simpa using (by injection h2 with h2; injection h2 with h2; injection h2 with h2; injection h2 with h3 h4; injection h4 with h4 h5; injection h4 : S.pa e0.2.1 = S.pa e2.2.1))
            exact absurd (hRn _ hq1 _ _ _ _ hq he0 h3.symm) (by omega)
          refine lv_aload_n hx hb dX1_out_129 rfl (lv_at hl 1 rfl) ?_
          refine zc_i (zr_V (As := []) (rest := []) ⟨hx, hb, hml, hown, hts⟩ (ct_J2_size l g A _ _ (S.mu (11 + q0.1)) _ (hY.ro hq1)) zn_J2_size (lw_V q225 q226 q227 q43 q228) rfl (by decide) (by decide) hK (fun _ h => h) hS hT (zt_recvL hK.1 hT (hY.ro hq1)) rfl hl.1 (Nat.le_of_ble_eq_true rfl) dX1_out_130 ⟨by show _ + 0 ≤ _; omega, by show _ + 0 ≤ _; omega⟩) hS (fun _ h => h) (fun r _ H locs hr1 hT _ _ hS => ?_)
          subst hr1
          refine zm_topi (y := nI ((S.Rd q0.1).length)) (by first | (simp; done) | exact congrArg nI (List.length_map _)) ?_
          refine lv_iconst (v := 1) hx hb dX1_out_133 (by decide) ?_
          refine lv_isub hx hb dX1_out_134 ?_
          refine lv_aload_n hx hb dX1_out_135 rfl (lv_at hl 1 rfl) ?_
          refine lv_aload_n hx hb dX1_out_136 rfl (lv_at hl 2 rfl) ?_
          refine zc_i (zr_V (As := [.ref e0.1]) (rest := [.int ((nI ((S.Rd q0.1).length)) - 1)]) ⟨hx, hb, hml, hown, hts⟩ (ct_J2_indexOf l g A _ _ _ _ (hY.ro hq1) q0.2 e0.1 8 _ (by rw [List.getElem?_map, he0]; rfl) hfst hec0 (Or.inr rfl)) zn_J2_indexOf (lw_V q925 q926 q927 q43 q928) rfl (by decide) (by decide) hK (fun _ h => h) hS hT (zt_recvL hK.1 hT (hY.ro hq1)) rfl hl.1 (Nat.le_of_ble_eq_true rfl) dX1_out_137 ⟨by show _ + 0 ≤ _; omega, by show _ + 0 ≤ _; omega⟩) hS (fun _ h => h) (fun r _ H locs hr1 hT _ _ hS => ?_)
          subst hr1
          refine lv_isub hx hb dX1_out_140 ?_
          refine lv_istore_n (lv' := [(3, .int (((nI ((S.Rd q0.1).length)) - 1) - (nI q0.2))), (2, .ref (S.A (11 + q0.1))), (1, .ref e0.1), (0, .ref (S.A 0))]) hx hb dX1_out_141 rfl hl (by decide) rfl (fun ls hl => ?_)
          refine lv_aload_n hx hb dX1_out_142 rfl (lv_at hl 1 rfl) ?_
          refine lv_aload_n hx hb dX1_out_143 rfl (lv_at hl 2 rfl) ?_
          refine zc_i (zr_V (As := [.ref e0.1]) (rest := []) ⟨hx, hb, hml, hown, hts⟩ (ct_J2_remove l g A _ _ _ _ (hY.ro hq1) q0.2 e0.1 8 _ (by rw [List.getElem?_map, he0]; rfl) hfst hec0 (Or.inr rfl) (hY.elR hq1)) zn_J2_remove (lw_V q597 q598 q599 q43 q600) rfl (by decide) (by decide) hK (fun _ h => h) hS hT (zt_recvL hK.1 hT (hY.ro hq1)) rfl hl.1 (Nat.le_of_ble_eq_true rfl) dX1_out_144 ⟨by show _ + 0 ≤ _; omega, by show _ + 0 ≤ _; omega⟩) hS (fun _ h => h) (fun r _ H locs hr1 hT _ _ hS => ?_)
          subst hr1
          obtain ⟨T, hT, hY, hec0⟩ : ∃ T1, zTH g A T1 H ∧ zSy (S.rS q0.1 ((S.Rd q0.1).eraseIdx q0.2)) g X T1 ∧ T1 e0.1 = some (.inl (zo 8 [.ref (S.pa e0.2.1), .int e0.2.2])) := ⟨_, hT, hY.rS hq1 _ (fun e1 h1 => hY.rd _ hq1 e1 (List.mem_of_mem_eraseIdx h1)) (map_eraseIdx _ _ _), (va_up_ne _ _ (hY.ne (c := 11 + q0.1) (Or.inl (by omega)) hec0 (by decide))).trans hec0⟩
          refine lv_pop hx hb dX1_out_147 rfl ?_
          refine lv_aload_n hx hb dX1_out_148 rfl (lv_at hl 2 rfl) ?_
          refine zt_getN hx hb hts in_X9 hown hK.1 hT hec0 rfl 0 (by decide) (va_Nw.use (A := args) rfl (hK.2.1.1 _ _ _ _ _ _ q899)) (fun _ h => h) rfl dX1_out_149 ?_
          refine lv_iconst (v := 0) hx hb dX1_out_152 (by decide) ?_
          refine zt_putN hx hb hts in_X4 tyX4 tyX4_ok nmX4 hown hK.1 hT hS (hY.p hep0) rfl 19 (by decide) (va_Nw.use (A := args) rfl (hK.2.1.1 _ _ _ _ _ _ q419)) (fun _ h => h) rfl (v := .int 0) (tyX4_ok 19 (by decide)) (zm_nz (Or.inl rfl)) rfl (show 19 < 20 from by decide) dX1_out_153 (fun H locs hT hS => ?_)
          obtain ⟨T, hT, hY⟩ : ∃ T1, zTH g A T1 H ∧ zSy (S.rS q0.1 ((S.Rd q0.1).eraseIdx q0.2)) g (zu X 12 e0.2.1 0) T1 := ⟨_, hT, hY.pw hep0 12 0 rfl (zpF_s (S.rS q0.1 ((S.Rd q0.1).eraseIdx q0.2)) X 19 12 e0.2.1 _ (by decide))⟩
          refine lv_iload_n hx hb dX1_out_156 rfl (lv_at hl 0 rfl) ?_
          have h32 := hRe _ hq1 _ _ he0
          have hcl : (X 32 (4 * q0.1 + q0.2)).toNatClampNeg = e0.2.1 := by rw [h32]; exact nI_clamp (by have := hI.1.2; omega)
          have e1 : m_out X = (nI (mR X q0.1) - 1 - nI q0.2, zu (zsh (zu (zu X 0 0 0) 12 e0.2.1 0) q0.1 q0.2 (mR X q0.1 - 1 - q0.2)) 31 q0.1 (nI (mR X q0.1) - 1)) := by unfold m_out; rw [← esl]; show (_, _) = _; rw [hcl]
          have hrow : ∀ k, k ≠ 0 → k < 23 → (m_out X).2 k = zu X 12 e0.2.1 0 k := fun k h0 h1 => by rw [e1]; show zu (zsh (zu (zu X 0 0 0) 12 e0.2.1 0) q0.1 q0.2 (mR X q0.1 - 1 - q0.2)) 31 q0.1 (nI (mR X q0.1) - 1) k = _; rw [zu_row_ne _ _ _ (by omega), zsh_cg _ _ _ (by omega)]; by_cases z : k = 12; subst z; rw [zu_row, zu_row, zu_row_ne _ _ _ (by decide)]; rw [zu_row_ne _ _ _ z, zu_row_ne _ _ _ z, zu_row_ne _ _ _ h0]
          have h00 : (m_out X).2 0 0 = 0 := by rw [e1]; show zu (zsh (zu (zu X 0 0 0) 12 e0.2.1 0) q0.1 q0.2 (mR X q0.1 - 1 - q0.2)) 31 q0.1 (nI (mR X q0.1) - 1) 0 0 = 0; rw [zu_row_ne _ _ _ (by decide), zsh_cg _ _ _ (by decide), zu_row_ne _ _ _ (by decide)]; exact zu_s X 0 0 0
          exact vx_ret (ze_i hx hb hr hlocks hS dX1_out_157 (by show _ ≤ 8; omega) (by show _ ≤ 40; omega) ((S.rS q0.1 ((S.Rd q0.1).eraseIdx q0.2)), T) ⟨⟨by rw [e1, ← hRl _ hq1], h00⟩, hY.hidR hrow, q0, esl.symm, rfl⟩ hT)
        · have hr2 := of_decide_eq_true c_8
          clear c_8
          rcases (show r = 0 ∨ r = 1 ∨ r = 2 by omega) with rfl | rfl | rfl
          · have hcz : decide (0 < 3) = true := by decide
            have c_z := hcz
            refine lv_aload_n hx hb dX1_out_36 rfl (lv_at hl 0 rfl) ?_
            have hkit := of_decide_eq_true c_z
            refine zc5_q (zr_F (As := []) (rest := []) (hK.1.1 10 _ rfl).2 ⟨hx, hb, hml, hown, hts⟩ (ct_J16_next l g A _ _ _ _ hY.rds it 0 _ hit (by first | (simp; done) | (simp; omega))) zn_F_nxt (lw_F q779 q782 q784 q63 q786) hK.2.1.2.2.2.2.2.2.2.2.1 (by decide) (by decide) hK (fun _ h => h) hS hT (zt_recv hK.1 hT hit rfl) rfl hl.1 (Nat.le_of_ble_eq_true rfl) dX1_out_37 ⟨by show _ + 0 ≤ _; omega, by show _ + 0 ≤ _; omega⟩) hS (fun _ h => h) (fun r _ H locs hg_9 hT _ _ hS => ?_)
            obtain ⟨T, hT, hY, hit⟩ : ∃ T1, zTH g A T1 H ∧ zSy S g X T1 ∧ T1 it = some (.inl (zo 10 [.int (nI (0 + 1)), .int (nI 0), .int (S.mu 8), .ref (S.A 8)])) := ⟨_, hT, hY.itu hit _, va_up_self _ _ _⟩
            subst hg_9
            refine zm_top (v' := .ref (S.A (11 + 0))) rfl ?_
            refine va_castS hx hb hown (hts _ q113) (hK.1.1 9 _ rfl).2 (zt_recvL hK.1 hT (hY.ro (show 0 < 3 by decide))) dX1_out_42 ?_
            refine lv_astore (lv' := [(4, .ref (S.A (11 + 0))), (3, .ref it), (2, va_rf (zsI S (zo2 X 0))), (1, va_rf (zsA S (zo2 X 0))), (0, .ref (S.A 0))]) hx hb dX1_out_45 hl (by decide) (by cases (zsI S (zo2 X 0)) <;> cases (zsA S (zo2 X 0)) <;> rfl) (fun ls hl => ?_)
            refine lv_aload hx hb dX1_out_47 (lv_at hl 0 rfl) ?_
            refine zc_q (zr_V (As := []) (rest := []) ⟨hx, hb, hml, hown, hts⟩ (ct_J2_iterator l g A _ _ _ _ (hY.ro (show 0 < 3 by decide))) zn_J2_iterator (lw_V q745 q746 q747 q43 q748) rfl (by decide) (by decide) hK (fun _ h => h) hS hT (zt_recvL hK.1 hT (hY.ro (show 0 < 3 by decide))) rfl hl.1 (Nat.le_of_ble_eq_true rfl) dX1_out_49 ⟨by show _ + 1 ≤ _; omega, by show _ + 4 ≤ _; omega⟩) hS (fun _ h => h) (fun r it2 H locs hr1 hT _ _ hS => ?_)
            obtain ⟨rfl, hnit2⟩ := hr1
            have nehit : it ≠ it2 := fun z => by rw [z, hnit2] at hit; cases hit
            obtain ⟨T, hT, hY, hit2, hit⟩ : ∃ T1, zTH g A T1 H ∧ zSy S g X T1 ∧ T1 it2 = some (.inl (zo 10 [.int (nI 0), .int (-1), .int (S.mu (11 + 0)), .ref (S.A (11 + 0))])) ∧ T1 it = some (.inl (zo 10 [.int (nI (0 + 1)), .int (nI 0), .int (S.mu 8), .ref (S.A 8)])) := ⟨_, hT, hY.fresh hnit2 _, va_up_self _ _ _, (va_up_ne _ _ nehit).trans hit⟩
            refine zm_top (v' := .ref it2) rfl ?_
            refine lv_astore (lv' := [(5, .ref it2), (4, .ref (S.A (11 + 0))), (3, .ref it), (2, va_rf (zsI S (zo2 X 0))), (1, va_rf (zsA S (zo2 X 0))), (0, .ref (S.A 0))]) hx hb dX1_out_52 hl (by decide) (by cases (zsI S (zo2 X 0)) <;> cases (zsA S (zo2 X 0)) <;> rfl) (fun ls hl => ?_)
            have L_11 : ∀ (n_10 : Nat) (k : Nat) (lr2 : Int32) (T : zT), ((S.Rd 0).length + 1 - k) < n_10 → (k ≤ (S.Rd 0).length) → (T it = some (.inl (zo 10 [.int (nI (0 + 1)), .int (nI 0), .int (S.mu 8), .ref (S.A 8)]))) → (T it2 = some (.inl (zo 10 [.int (nI k), .int lr2, .int (S.mu (11 + 0)), .ref (S.A (11 + 0))]))) → (zSy S g X T) → ∀ (H : Heap) (locs : List Loc) (ls : Array Slot), zTH g A T H → va_S A s.heap H locs → lv_has ls 8 [(5, .ref it2), (4, .ref (S.A (11 + 0))), (3, .ref it), (2, va_rf (zsI S (zo1 X 0 (zo2 X 0) k))), (1, va_rf (zsA S (zo1 X 0 (zo2 X 0) k))), (0, .ref (S.A 0))] → W p l e (zR 7 8 40) s m args below meth c H locs ((2 + 0) + 1) ((10 + 4 * 0) + 4) (vx_MQ below (va_Qi (fun rz_ (u : zS × zT) => (rz_ = (m_out X).1 ∧ (m_out X).2 0 0 = 0) ∧ zSy u.1 g (m_out X).2 u.2 ∧ ∃ q, zo2 X 3 = some q ∧ u.1 = S.rS q.1 ((S.Rd q.1).eraseIdx q.2)) (fun u t => zTH g A u.2 t.heap) A) (zXC (fun E => E = xIS ∧ (m_out X).2 0 0 = 1) g A T_0) args s 8 40 A) (F0 m 54 ls []) := by
              intro n_10
              induction n_10 with
              | zero => intro k lr2 T hm; exact absurd hm (Nat.not_lt_zero _)
              | succ n_10 ih =>
                intro k lr2 T hm hk hit hit2 hY H locs ls hT hS hl
                have ih_12 := ih
                have hl4 := (hW.2 0 (by decide)).1
                refine lv_aload hx hb dX1_out_54 (lv_at hl 0 rfl) ?_
                refine zc5_i (zr_F (As := []) (rest := []) (hK.1.1 10 _ rfl).2 ⟨hx, hb, hml, hown, hts⟩ (ct_J16_hasNext l g A _ _ _ _ (hY.ro (show 0 < 3 by decide)) it2 k _ hit2 (by first | (simp; done) | (simp; omega)) (by first | (simp; done) | (simp; omega))) zn_F_has (lw_F q769 q773 q775 q63 q777) hK.2.1.2.2.2.2.2.2.2.1 (by decide) (by decide) hK (fun _ h => h) hS hT (zt_recv hK.1 hT hit2 rfl) rfl hl.1 (Nat.le_of_ble_eq_true rfl) dX1_out_56 ⟨by show _ + 0 ≤ _; omega, by show _ + 0 ≤ _; omega⟩) hS (fun _ h => h) (fun r _ H locs hr1 hT _ _ hS => ?_)
                subst hr1
                refine zm_topi (y := zb (decide (k < (S.Rd 0).length))) (by simp) ?_
                refine zl_ifeq (tgt := 126) hx hb dX1_out_61 (by decide) (fun c_13 => ?_) (fun c_13 => ?_)
                · have hkl : k = mR X 0 := by have := of_decide_eq_false c_13; rw [← hRl 0 (by decide)]; omega
                  have hl : lv_has ls 8 [(5, .ref it2), (4, .ref (S.A (11 + 0))), (3, .ref it), (2, va_rf (zsI S (zo2 X (0 + 1)))), (1, va_rf (zsA S (zo2 X (0 + 1)))), (0, .ref (S.A 0))] := by rw [hkl] at hl; exact hl
                  refine lv_goto (tgt := 27) hx hb dX1_out_126 (by decide) ?_
                  exact ih_7 (0 + 1) (nI 0) T (by omega) (by omega) hit hY _ _ _ hT hS (lv_sub hl [2, 3, 4, 5] rfl)
                · refine lv_aload hx hb dX1_out_64 (lv_at hl 0 rfl) ?_
                  have hkit2 := of_decide_eq_true c_13
                  refine zc5_q (zr_F (As := []) (rest := []) (hK.1.1 10 _ rfl).2 ⟨hx, hb, hml, hown, hts⟩ (ct_J16_next l g A _ _ _ _ (hY.ro (show 0 < 3 by decide)) it2 k _ hit2 (by first | (simp; done) | (simp; omega))) zn_F_nxt (lw_F q779 q782 q784 q63 q786) hK.2.1.2.2.2.2.2.2.2.2.1 (by decide) (by decide) hK (fun _ h => h) hS hT (zt_recv hK.1 hT hit2 rfl) rfl hl.1 (Nat.le_of_ble_eq_true rfl) dX1_out_66 ⟨by show _ + 0 ≤ _; omega, by show _ + 0 ≤ _; omega⟩) hS (fun _ h => h) (fun r _ H locs hg_14 hT _ _ hS => ?_)
                  obtain ⟨T, hT, hY, hit2, hit⟩ : ∃ T1, zTH g A T1 H ∧ zSy S g X T1 ∧ T1 it2 = some (.inl (zo 10 [.int (nI (k + 1)), .int (nI k), .int (S.mu (11 + 0)), .ref (S.A (11 + 0))])) ∧ T1 it = some (.inl (zo 10 [.int (nI (0 + 1)), .int (nI 0), .int (S.mu 8), .ref (S.A 8)])) := ⟨_, hT, hY.itu hit2 _, va_up_self _ _ _, (va_up_ne _ _ nehit).trans hit⟩
                  obtain ⟨ez, he⟩ : ∃ e, (S.Rd 0)[k]? = some e := ⟨_, List.getElem?_eq_getElem (by omega)⟩
                  have hem := List.mem_of_getElem? he
                  have hep := (hW.2 0 (by decide)).2 ez hem
                  have hec := hY.rd 0 (by decide) ez hem
                  unfold zCg at hec
                  have hg_14r : r = some ez.1 := by rw [hg_14]; exact Option.some.inj ((List.getElem?_eq_getElem _).symm.trans (by rw [List.getElem?_map, he]; rfl))
                  clear hg_14
                  subst hg_14r
                  refine zm_top (v' := .ref ez.1) rfl ?_
                  refine va_castS hx hb hown (hts _ q248) (hK.1.1 8 _ rfl).2 (zt_recv hK.1 hT hec (r := zCl[8]) rfl) dX1_out_71 ?_
                  refine lv_astore (lv' := [(6, .ref ez.1), (5, .ref it2), (4, .ref (S.A (11 + 0))), (3, .ref it), (2, va_rf (zsI S (zo1 X 0 (zo2 X 0) k))), (1, va_rf (zsA S (zo1 X 0 (zo2 X 0) k))), (0, .ref (S.A 0))]) hx hb dX1_out_74 hl (by decide) (by cases (zsI S (zo1 X 0 (zo2 X 0) k)) <;> cases (zsA S (zo1 X 0 (zo2 X 0) k)) <;> rfl) (fun ls hl => ?_)
                  obtain ⟨sl, esl⟩ : ∃ sl, sl = zo1 X 0 (zo2 X 0) k := ⟨_, rfl⟩
                  rw [← esl] at hl
                  rcases sl with _ | q0
                  · have hl : lv_has ls 8 [(6, .ref ez.1), (5, .ref it2), (4, .ref (S.A (11 + 0))), (3, .ref it), (2, .null), (1, .null), (0, .ref (S.A 0))] := hl
                    refine lv_aload_nN hx hb dX1_out_76 rfl (lv_at hl 5 rfl) ?_
                    refine lv_ifnullN (tgt := 92) hx hb dX1_out_77 (by decide) ?_
                    refine lv_iconst (v := 1) hx hb dX1_out_92 (by decide) ?_
                    refine lv_goto (tgt := 97) hx hb dX1_out_93 (by decide) ?_
                    refine lv_istore (lv' := [(7, .int 1), (6, .ref ez.1), (5, .ref it2), (4, .ref (S.A (11 + 0))), (3, .ref it), (2, .null), (1, .null), (0, .ref (S.A 0))]) hx hb dX1_out_97 hl (by decide) rfl (fun ls hl => ?_)
                    refine lv_iload hx hb dX1_out_99 (lv_at hl 0 rfl) ?_
                    refine lv_if_eq (tgt := 109) hx hb dX1_out_101 (by decide) (fun c_15 => absurd c_15 (by decide)) (fun _ => ?_)
                    refine lv_aload hx hb dX1_out_104 (lv_at hl 3 rfl) ?_
                    refine lv_goto (tgt := 110) hx hb dX1_out_106 (by decide) ?_
                    refine lv_astore_n (lv' := [(2, .ref (S.A (11 + 0))), (7, .int 1), (6, .ref ez.1), (5, .ref it2), (4, .ref (S.A (11 + 0))), (3, .ref it), (1, .null), (0, .ref (S.A 0))]) hx hb dX1_out_110 rfl hl (by decide) rfl (fun ls hl => ?_)
                    refine lv_iload hx hb dX1_out_111 (lv_at hl 1 rfl) ?_
                    refine lv_if_eq (tgt := 121) hx hb dX1_out_113 (by decide) (fun c_16 => absurd c_16 (by decide)) (fun _ => ?_)
                    refine lv_aload hx hb dX1_out_116 (lv_at hl 2 rfl) ?_
                    refine lv_goto (tgt := 122) hx hb dX1_out_118 (by decide) ?_
                    refine lv_astore_n (lv' := [(1, .ref ez.1), (2, .ref (S.A (11 + 0))), (7, .int 1), (6, .ref ez.1), (5, .ref it2), (4, .ref (S.A (11 + 0))), (3, .ref it), (0, .ref (S.A 0))]) hx hb dX1_out_122 rfl hl (by decide) rfl (fun ls hl => ?_)
                    have hzs : zo1 X 0 (zo2 X 0) (k + 1) = zos X 0 k (zo1 X 0 (zo2 X 0) k) := rfl
                    rw [← esl] at hzs
                    have hzn : zo1 X 0 (zo2 X 0) (k + 1) = some (0, k) := hzs
                    have hl : lv_has ls 8 [(1, va_rf (zsA S (zo1 X 0 (zo2 X 0) (k + 1)))), (2, va_rf (zsI S (zo1 X 0 (zo2 X 0) (k + 1)))), (7, .int 1), (6, .ref ez.1), (5, .ref it2), (4, .ref (S.A (11 + 0))), (3, .ref it), (0, .ref (S.A 0))] := by rw [hzn, (zsA_s (q := (0, k)) he)]; exact hl
                    refine lv_goto (tgt := 54) hx hb dX1_out_123 (by decide) ?_
                    exact ih_12 (k + 1) (nI k) T (by omega) (by omega) hit hit2 hY _ _ _ hT hS (lv_sub hl [4, 5, 6, 1, 0, 7] rfl)
                  · obtain ⟨hq1, hq2⟩ : q0.1 < 3 ∧ q0.2 < (S.Rd q0.1).length := by have h := zo1_ok (X := X) (r := 0) (s := zo2 X 0) (fun z hz => ⟨Nat.le_of_lt (zo2_ok _ z hz).1, (zo2_ok _ z hz).2⟩) k (by rw [← hRl 0 (by decide)]; omega) q0 esl.symm; have h1 : q0.1 < 3 := (by omega); exact ⟨h1, by rw [hRl _ h1]; exact h.2⟩
                    obtain ⟨e0, he0⟩ : ∃ e, (S.Rd q0.1)[q0.2]? = some e := ⟨_, List.getElem?_eq_getElem hq2⟩
                    have hem0 := List.mem_of_getElem? he0
                    have hep0 := (hW.2 _ hq1).2 e0 hem0
                    have hec0 := hY.rd _ hq1 e0 hem0
                    unfold zCg at hec0
                    have za : zsA S (some q0) = some e0.1 := zsA_s he0
                    have hl : lv_has ls 8 [(6, .ref ez.1), (5, .ref it2), (4, .ref (S.A (11 + 0))), (3, .ref it), (2, .ref (S.A (11 + q0.1))), (1, .ref e0.1), (0, .ref (S.A 0))] := by rw [za] at hl; exact hl
                    refine lv_aload_n hx hb dX1_out_76 rfl (lv_at hl 5 rfl) ?_
                    refine lv_ifnull hx hb dX1_out_77 ?_
                    refine lv_aload hx hb dX1_out_80 (lv_at hl 0 rfl) ?_
                    refine zt_getN hx hb hts in_X9 hown hK.1 hT hec rfl 1 (by decide) (va_Nw.use (A := args) rfl (hK.2.1.1 _ _ _ _ _ _ q901)) (fun _ h => h) rfl dX1_out_82 ?_
                    refine lv_aload_n hx hb dX1_out_85 rfl (lv_at hl 5 rfl) ?_
                    refine zt_getN hx hb hts in_X9 hown hK.1 hT hec0 rfl 1 (by decide) (va_Nw.use (A := args) rfl (hK.2.1.1 _ _ _ _ _ _ q901)) (fun _ h => h) rfl dX1_out_86 ?_
                    refine lv_icmp_ge (tgt := 96) hx hb dX1_out_89 (by decide) (fun c_17 => ?_) (fun c_17 => ?_)
                    · refine lv_iconst (v := 0) hx hb dX1_out_96 (by decide) ?_
                      refine lv_istore (lv' := [(7, .int 0), (6, .ref ez.1), (5, .ref it2), (4, .ref (S.A (11 + 0))), (3, .ref it), (2, .ref (S.A (11 + q0.1))), (1, .ref e0.1), (0, .ref (S.A 0))]) hx hb dX1_out_97 hl (by decide) rfl (fun ls hl => ?_)
                      refine lv_iload hx hb dX1_out_99 (lv_at hl 0 rfl) ?_
                      refine lv_if_eq (tgt := 109) hx hb dX1_out_101 (by decide) (fun _ => ?_) (fun c_18 => absurd (by decide) c_18)
                      refine lv_aload_n hx hb dX1_out_109 rfl (lv_at hl 5 rfl) ?_
                      refine lv_astore_n (lv' := [(2, .ref (S.A (11 + q0.1))), (7, .int 0), (6, .ref ez.1), (5, .ref it2), (4, .ref (S.A (11 + 0))), (3, .ref it), (1, .ref e0.1), (0, .ref (S.A 0))]) hx hb dX1_out_110 rfl hl (by decide) rfl (fun ls hl => ?_)
                      refine lv_iload hx hb dX1_out_111 (lv_at hl 1 rfl) ?_
                      refine lv_if_eq (tgt := 121) hx hb dX1_out_113 (by decide) (fun _ => ?_) (fun c_19 => absurd (by decide) c_19)
                      refine lv_aload_n hx hb dX1_out_121 rfl (lv_at hl 6 rfl) ?_
                      refine lv_astore_n (lv' := [(1, .ref e0.1), (2, .ref (S.A (11 + q0.1))), (7, .int 0), (6, .ref ez.1), (5, .ref it2), (4, .ref (S.A (11 + 0))), (3, .ref it), (0, .ref (S.A 0))]) hx hb dX1_out_122 rfl hl (by decide) rfl (fun ls hl => ?_)
                      have hzs : zo1 X 0 (zo2 X 0) (k + 1) = zos X 0 k (zo1 X 0 (zo2 X 0) k) := rfl
                      rw [← esl] at hzs
                      have ht0 := hRt _ hq1 _ _ he0
                      have htk := hRt 0 (by decide) _ _ he
                      have hzn : zo1 X 0 (zo2 X 0) (k + 1) = some q0 := hzs.trans (zos_ge (by rw [ht0, htk]; exact c_17))
                      have hl : lv_has ls 8 [(1, va_rf (zsA S (zo1 X 0 (zo2 X 0) (k + 1)))), (2, va_rf (zsI S (zo1 X 0 (zo2 X 0) (k + 1)))), (7, .int 0), (6, .ref ez.1), (5, .ref it2), (4, .ref (S.A (11 + 0))), (3, .ref it), (0, .ref (S.A 0))] := by rw [hzn, za]; exact hl
                      refine lv_goto (tgt := 54) hx hb dX1_out_123 (by decide) ?_
                      exact ih_12 (k + 1) (nI k) T (by omega) (by omega) hit hit2 hY _ _ _ hT hS (lv_sub hl [4, 5, 6, 1, 0, 7] rfl)
                    · refine lv_iconst (v := 1) hx hb dX1_out_92 (by decide) ?_
                      refine lv_goto (tgt := 97) hx hb dX1_out_93 (by decide) ?_
                      refine lv_istore (lv' := [(7, .int 1), (6, .ref ez.1), (5, .ref it2), (4, .ref (S.A (11 + 0))), (3, .ref it), (2, .ref (S.A (11 + q0.1))), (1, .ref e0.1), (0, .ref (S.A 0))]) hx hb dX1_out_97 hl (by decide) rfl (fun ls hl => ?_)
                      refine lv_iload hx hb dX1_out_99 (lv_at hl 0 rfl) ?_
                      refine lv_if_eq (tgt := 109) hx hb dX1_out_101 (by decide) (fun c_20 => absurd c_20 (by decide)) (fun _ => ?_)
                      refine lv_aload hx hb dX1_out_104 (lv_at hl 3 rfl) ?_
                      refine lv_goto (tgt := 110) hx hb dX1_out_106 (by decide) ?_
                      refine lv_astore_n (lv' := [(2, .ref (S.A (11 + 0))), (7, .int 1), (6, .ref ez.1), (5, .ref it2), (4, .ref (S.A (11 + 0))), (3, .ref it), (1, .ref e0.1), (0, .ref (S.A 0))]) hx hb dX1_out_110 rfl hl (by decide) rfl (fun ls hl => ?_)
                      refine lv_iload hx hb dX1_out_111 (lv_at hl 1 rfl) ?_
                      refine lv_if_eq (tgt := 121) hx hb dX1_out_113 (by decide) (fun c_21 => absurd c_21 (by decide)) (fun _ => ?_)
                      refine lv_aload hx hb dX1_out_116 (lv_at hl 2 rfl) ?_
                      refine lv_goto (tgt := 122) hx hb dX1_out_118 (by decide) ?_
                      refine lv_astore_n (lv' := [(1, .ref ez.1), (2, .ref (S.A (11 + 0))), (7, .int 1), (6, .ref ez.1), (5, .ref it2), (4, .ref (S.A (11 + 0))), (3, .ref it), (0, .ref (S.A 0))]) hx hb dX1_out_122 rfl hl (by decide) rfl (fun ls hl => ?_)
                      have hzs : zo1 X 0 (zo2 X 0) (k + 1) = zos X 0 k (zo1 X 0 (zo2 X 0) k) := rfl
                      rw [← esl] at hzs
                      have ht0 := hRt _ hq1 _ _ he0
                      have htk := hRt 0 (by decide) _ _ he
                      have hzn : zo1 X 0 (zo2 X 0) (k + 1) = some (0, k) := hzs.trans (zos_lt (by rw [ht0, htk]; exact c_17))
                      have hl : lv_has ls 8 [(1, va_rf (zsA S (zo1 X 0 (zo2 X 0) (k + 1)))), (2, va_rf (zsI S (zo1 X 0 (zo2 X 0) (k + 1)))), (7, .int 1), (6, .ref ez.1), (5, .ref it2), (4, .ref (S.A (11 + 0))), (3, .ref it), (0, .ref (S.A 0))] := by rw [hzn, (zsA_s (q := (0, k)) he)]; exact hl
                      refine lv_goto (tgt := 54) hx hb dX1_out_123 (by decide) ?_
                      exact ih_12 (k + 1) (nI k) T (by omega) (by omega) hit hit2 hY _ _ _ hT hS (lv_sub hl [4, 5, 6, 1, 0, 7] rfl)
            exact L_11 (((S.Rd 0).length + 1 - 0) + 1) 0 (-1) T (Nat.lt_succ_self _) (Nat.zero_le _) hit hit2 hY _ _ _ hT hS (lv_sub hl [0, 1, 2, 3, 4, 5] rfl)
          · have hcz : decide (1 < 3) = true := by decide
            have c_z := hcz
            refine lv_aload_n hx hb dX1_out_36 rfl (lv_at hl 0 rfl) ?_
            have hkit := of_decide_eq_true c_z
            refine zc5_q (zr_F (As := []) (rest := []) (hK.1.1 10 _ rfl).2 ⟨hx, hb, hml, hown, hts⟩ (ct_J16_next l g A _ _ _ _ hY.rds it 1 _ hit (by first | (simp; done) | (simp; omega))) zn_F_nxt (lw_F q779 q782 q784 q63 q786) hK.2.1.2.2.2.2.2.2.2.2.1 (by decide) (by decide) hK (fun _ h => h) hS hT (zt_recv hK.1 hT hit rfl) rfl hl.1 (Nat.le_of_ble_eq_true rfl) dX1_out_37 ⟨by show _ + 0 ≤ _; omega, by show _ + 0 ≤ _; omega⟩) hS (fun _ h => h) (fun r _ H locs hg_22 hT _ _ hS => ?_)
            obtain ⟨T, hT, hY, hit⟩ : ∃ T1, zTH g A T1 H ∧ zSy S g X T1 ∧ T1 it = some (.inl (zo 10 [.int (nI (1 + 1)), .int (nI 1), .int (S.mu 8), .ref (S.A 8)])) := ⟨_, hT, hY.itu hit _, va_up_self _ _ _⟩
            subst hg_22
            refine zm_top (v' := .ref (S.A (11 + 1))) rfl ?_
            refine va_castS hx hb hown (hts _ q113) (hK.1.1 9 _ rfl).2 (zt_recvL hK.1 hT (hY.ro (show 1 < 3 by decide))) dX1_out_42 ?_
            refine lv_astore (lv' := [(4, .ref (S.A (11 + 1))), (3, .ref it), (2, va_rf (zsI S (zo2 X 1))), (1, va_rf (zsA S (zo2 X 1))), (0, .ref (S.A 0))]) hx hb dX1_out_45 hl (by decide) (by cases (zsI S (zo2 X 1)) <;> cases (zsA S (zo2 X 1)) <;> rfl) (fun ls hl => ?_)
            refine lv_aload hx hb dX1_out_47 (lv_at hl 0 rfl) ?_
            refine zc_q (zr_V (As := []) (rest := []) ⟨hx, hb, hml, hown, hts⟩ (ct_J2_iterator l g A _ _ _ _ (hY.ro (show 1 < 3 by decide))) zn_J2_iterator (lw_V q745 q746 q747 q43 q748) rfl (by decide) (by decide) hK (fun _ h => h) hS hT (zt_recvL hK.1 hT (hY.ro (show 1 < 3 by decide))) rfl hl.1 (Nat.le_of_ble_eq_true rfl) dX1_out_49 ⟨by show _ + 1 ≤ _; omega, by show _ + 4 ≤ _; omega⟩) hS (fun _ h => h) (fun r it2 H locs hr1 hT _ _ hS => ?_)
            obtain ⟨rfl, hnit2⟩ := hr1
            have nehit : it ≠ it2 := fun z => by rw [z, hnit2] at hit; cases hit
            obtain ⟨T, hT, hY, hit2, hit⟩ : ∃ T1, zTH g A T1 H ∧ zSy S g X T1 ∧ T1 it2 = some (.inl (zo 10 [.int (nI 0), .int (-1), .int (S.mu (11 + 1)), .ref (S.A (11 + 1))])) ∧ T1 it = some (.inl (zo 10 [.int (nI (1 + 1)), .int (nI 1), .int (S.mu 8), .ref (S.A 8)])) := ⟨_, hT, hY.fresh hnit2 _, va_up_self _ _ _, (va_up_ne _ _ nehit).trans hit⟩
            refine zm_top (v' := .ref it2) rfl ?_
            refine lv_astore (lv' := [(5, .ref it2), (4, .ref (S.A (11 + 1))), (3, .ref it), (2, va_rf (zsI S (zo2 X 1))), (1, va_rf (zsA S (zo2 X 1))), (0, .ref (S.A 0))]) hx hb dX1_out_52 hl (by decide) (by cases (zsI S (zo2 X 1)) <;> cases (zsA S (zo2 X 1)) <;> rfl) (fun ls hl => ?_)
            have L_24 : ∀ (n_23 : Nat) (k : Nat) (lr2 : Int32) (T : zT), ((S.Rd 1).length + 1 - k) < n_23 → (k ≤ (S.Rd 1).length) → (T it = some (.inl (zo 10 [.int (nI (1 + 1)), .int (nI 1), .int (S.mu 8), .ref (S.A 8)]))) → (T it2 = some (.inl (zo 10 [.int (nI k), .int lr2, .int (S.mu (11 + 1)), .ref (S.A (11 + 1))]))) → (zSy S g X T) → ∀ (H : Heap) (locs : List Loc) (ls : Array Slot), zTH g A T H → va_S A s.heap H locs → lv_has ls 8 [(5, .ref it2), (4, .ref (S.A (11 + 1))), (3, .ref it), (2, va_rf (zsI S (zo1 X 1 (zo2 X 1) k))), (1, va_rf (zsA S (zo1 X 1 (zo2 X 1) k))), (0, .ref (S.A 0))] → W p l e (zR 7 8 40) s m args below meth c H locs ((2 + 1) + 1) ((10 + 4 * 1) + 4) (vx_MQ below (va_Qi (fun rz_ (u : zS × zT) => (rz_ = (m_out X).1 ∧ (m_out X).2 0 0 = 0) ∧ zSy u.1 g (m_out X).2 u.2 ∧ ∃ q, zo2 X 3 = some q ∧ u.1 = S.rS q.1 ((S.Rd q.1).eraseIdx q.2)) (fun u t => zTH g A u.2 t.heap) A) (zXC (fun E => E = xIS ∧ (m_out X).2 0 0 = 1) g A T_0) args s 8 40 A) (F0 m 54 ls []) := by
              intro n_23
              induction n_23 with
              | zero => intro k lr2 T hm; exact absurd hm (Nat.not_lt_zero _)
              | succ n_23 ih =>
                intro k lr2 T hm hk hit hit2 hY H locs ls hT hS hl
                have ih_25 := ih
                have hl4 := (hW.2 1 (by decide)).1
                refine lv_aload hx hb dX1_out_54 (lv_at hl 0 rfl) ?_
                refine zc5_i (zr_F (As := []) (rest := []) (hK.1.1 10 _ rfl).2 ⟨hx, hb, hml, hown, hts⟩ (ct_J16_hasNext l g A _ _ _ _ (hY.ro (show 1 < 3 by decide)) it2 k _ hit2 (by first | (simp; done) | (simp; omega)) (by first | (simp; done) | (simp; omega))) zn_F_has (lw_F q769 q773 q775 q63 q777) hK.2.1.2.2.2.2.2.2.2.1 (by decide) (by decide) hK (fun _ h => h) hS hT (zt_recv hK.1 hT hit2 rfl) rfl hl.1 (Nat.le_of_ble_eq_true rfl) dX1_out_56 ⟨by show _ + 0 ≤ _; omega, by show _ + 0 ≤ _; omega⟩) hS (fun _ h => h) (fun r _ H locs hr1 hT _ _ hS => ?_)
                subst hr1
                refine zm_topi (y := zb (decide (k < (S.Rd 1).length))) (by simp) ?_
                refine zl_ifeq (tgt := 126) hx hb dX1_out_61 (by decide) (fun c_26 => ?_) (fun c_26 => ?_)
                · have hkl : k = mR X 1 := by have := of_decide_eq_false c_26; rw [← hRl 1 (by decide)]; omega
                  have hl : lv_has ls 8 [(5, .ref it2), (4, .ref (S.A (11 + 1))), (3, .ref it), (2, va_rf (zsI S (zo2 X (1 + 1)))), (1, va_rf (zsA S (zo2 X (1 + 1)))), (0, .ref (S.A 0))] := by rw [hkl] at hl; exact hl
                  refine lv_goto (tgt := 27) hx hb dX1_out_126 (by decide) ?_
                  exact ih_7 (1 + 1) (nI 1) T (by omega) (by omega) hit hY _ _ _ hT hS (lv_sub hl [2, 3, 4, 5] rfl)
                · refine lv_aload hx hb dX1_out_64 (lv_at hl 0 rfl) ?_
                  have hkit2 := of_decide_eq_true c_26
                  refine zc5_q (zr_F (As := []) (rest := []) (hK.1.1 10 _ rfl).2 ⟨hx, hb, hml, hown, hts⟩ (ct_J16_next l g A _ _ _ _ (hY.ro (show 1 < 3 by decide)) it2 k _ hit2 (by first | (simp; done) | (simp; omega))) zn_F_nxt (lw_F q779 q782 q784 q63 q786) hK.2.1.2.2.2.2.2.2.2.2.1 (by decide) (by decide) hK (fun _ h => h) hS hT (zt_recv hK.1 hT hit2 rfl) rfl hl.1 (Nat.le_of_ble_eq_true rfl) dX1_out_66 ⟨by show _ + 0 ≤ _; omega, by show _ + 0 ≤ _; omega⟩) hS (fun _ h => h) (fun r _ H locs hg_27 hT _ _ hS => ?_)
                  obtain ⟨T, hT, hY, hit2, hit⟩ : ∃ T1, zTH g A T1 H ∧ zSy S g X T1 ∧ T1 it2 = some (.inl (zo 10 [.int (nI (k + 1)), .int (nI k), .int (S.mu (11 + 1)), .ref (S.A (11 + 1))])) ∧ T1 it = some (.inl (zo 10 [.int (nI (1 + 1)), .int (nI 1), .int (S.mu 8), .ref (S.A 8)])) := ⟨_, hT, hY.itu hit2 _, va_up_self _ _ _, (va_up_ne _ _ nehit).trans hit⟩
                  obtain ⟨ez, he⟩ : ∃ e, (S.Rd 1)[k]? = some e := ⟨_, List.getElem?_eq_getElem (by omega)⟩
                  have hem := List.mem_of_getElem? he
                  have hep := (hW.2 1 (by decide)).2 ez hem
                  have hec := hY.rd 1 (by decide) ez hem
                  unfold zCg at hec
                  have hg_27r : r = some ez.1 := by rw [hg_27]; exact Option.some.inj ((List.getElem?_eq_getElem _).symm.trans (by rw [List.getElem?_map, he]; rfl))
                  clear hg_27
                  subst hg_27r
                  refine zm_top (v' := .ref ez.1) rfl ?_
                  refine va_castS hx hb hown (hts _ q248) (hK.1.1 8 _ rfl).2 (zt_recv hK.1 hT hec (r := zCl[8]) rfl) dX1_out_71 ?_
                  refine lv_astore (lv' := [(6, .ref ez.1), (5, .ref it2), (4, .ref (S.A (11 + 1))), (3, .ref it), (2, va_rf (zsI S (zo1 X 1 (zo2 X 1) k))), (1, va_rf (zsA S (zo1 X 1 (zo2 X 1) k))), (0, .ref (S.A 0))]) hx hb dX1_out_74 hl (by decide) (by cases (zsI S (zo1 X 1 (zo2 X 1) k)) <;> cases (zsA S (zo1 X 1 (zo2 X 1) k)) <;> rfl) (fun ls hl => ?_)
                  obtain ⟨sl, esl⟩ : ∃ sl, sl = zo1 X 1 (zo2 X 1) k := ⟨_, rfl⟩
                  rw [← esl] at hl
                  rcases sl with _ | q0
                  · have hl : lv_has ls 8 [(6, .ref ez.1), (5, .ref it2), (4, .ref (S.A (11 + 1))), (3, .ref it), (2, .null), (1, .null), (0, .ref (S.A 0))] := hl
                    refine lv_aload_nN hx hb dX1_out_76 rfl (lv_at hl 5 rfl) ?_
                    refine lv_ifnullN (tgt := 92) hx hb dX1_out_77 (by decide) ?_
                    refine lv_iconst (v := 1) hx hb dX1_out_92 (by decide) ?_
                    refine lv_goto (tgt := 97) hx hb dX1_out_93 (by decide) ?_
                    refine lv_istore (lv' := [(7, .int 1), (6, .ref ez.1), (5, .ref it2), (4, .ref (S.A (11 + 1))), (3, .ref it), (2, .null), (1, .null), (0, .ref (S.A 0))]) hx hb dX1_out_97 hl (by decide) rfl (fun ls hl => ?_)
                    refine lv_iload hx hb dX1_out_99 (lv_at hl 0 rfl) ?_
                    refine lv_if_eq (tgt := 109) hx hb dX1_out_101 (by decide) (fun c_28 => absurd c_28 (by decide)) (fun _ => ?_)
                    refine lv_aload hx hb dX1_out_104 (lv_at hl 3 rfl) ?_
                    refine lv_goto (tgt := 110) hx hb dX1_out_106 (by decide) ?_
                    refine lv_astore_n (lv' := [(2, .ref (S.A (11 + 1))), (7, .int 1), (6, .ref ez.1), (5, .ref it2), (4, .ref (S.A (11 + 1))), (3, .ref it), (1, .null), (0, .ref (S.A 0))]) hx hb dX1_out_110 rfl hl (by decide) rfl (fun ls hl => ?_)
                    refine lv_iload hx hb dX1_out_111 (lv_at hl 1 rfl) ?_
                    refine lv_if_eq (tgt := 121) hx hb dX1_out_113 (by decide) (fun c_29 => absurd c_29 (by decide)) (fun _ => ?_)
                    refine lv_aload hx hb dX1_out_116 (lv_at hl 2 rfl) ?_
                    refine lv_goto (tgt := 122) hx hb dX1_out_118 (by decide) ?_
                    refine lv_astore_n (lv' := [(1, .ref ez.1), (2, .ref (S.A (11 + 1))), (7, .int 1), (6, .ref ez.1), (5, .ref it2), (4, .ref (S.A (11 + 1))), (3, .ref it), (0, .ref (S.A 0))]) hx hb dX1_out_122 rfl hl (by decide) rfl (fun ls hl => ?_)
                    have hzs : zo1 X 1 (zo2 X 1) (k + 1) = zos X 1 k (zo1 X 1 (zo2 X 1) k) := rfl
                    rw [← esl] at hzs
                    have hzn : zo1 X 1 (zo2 X 1) (k + 1) = some (1, k) := hzs
                    have hl : lv_has ls 8 [(1, va_rf (zsA S (zo1 X 1 (zo2 X 1) (k + 1)))), (2, va_rf (zsI S (zo1 X 1 (zo2 X 1) (k + 1)))), (7, .int 1), (6, .ref ez.1), (5, .ref it2), (4, .ref (S.A (11 + 1))), (3, .ref it), (0, .ref (S.A 0))] := by rw [hzn, (zsA_s (q := (1, k)) he)]; exact hl
                    refine lv_goto (tgt := 54) hx hb dX1_out_123 (by decide) ?_
                    exact ih_25 (k + 1) (nI k) T (by omega) (by omega) hit hit2 hY _ _ _ hT hS (lv_sub hl [4, 5, 6, 1, 0, 7] rfl)
                  · obtain ⟨hq1, hq2⟩ : q0.1 < 3 ∧ q0.2 < (S.Rd q0.1).length := by have h := zo1_ok (X := X) (r := 1) (s := zo2 X 1) (fun z hz => ⟨Nat.le_of_lt (zo2_ok _ z hz).1, (zo2_ok _ z hz).2⟩) k (by rw [← hRl 1 (by decide)]; omega) q0 esl.symm; have h1 : q0.1 < 3 := (by omega); exact ⟨h1, by rw [hRl _ h1]; exact h.2⟩
                    obtain ⟨e0, he0⟩ : ∃ e, (S.Rd q0.1)[q0.2]? = some e := ⟨_, List.getElem?_eq_getElem hq2⟩
                    have hem0 := List.mem_of_getElem? he0
                    have hep0 := (hW.2 _ hq1).2 e0 hem0
                    have hec0 := hY.rd _ hq1 e0 hem0
                    unfold zCg at hec0
                    have za : zsA S (some q0) = some e0.1 := zsA_s he0
                    have hl : lv_has ls 8 [(6, .ref ez.1), (5, .ref it2), (4, .ref (S.A (11 + 1))), (3, .ref it), (2, .ref (S.A (11 + q0.1))), (1, .ref e0.1), (0, .ref (S.A 0))] := by rw [za] at hl; exact hl
                    refine lv_aload_n hx hb dX1_out_76 rfl (lv_at hl 5 rfl) ?_
                    refine lv_ifnull hx hb dX1_out_77 ?_
                    refine lv_aload hx hb dX1_out_80 (lv_at hl 0 rfl) ?_
                    refine zt_getN hx hb hts in_X9 hown hK.1 hT hec rfl 1 (by decide) (va_Nw.use (A := args) rfl (hK.2.1.1 _ _ _ _ _ _ q901)) (fun _ h => h) rfl dX1_out_82 ?_
                    refine lv_aload_n hx hb dX1_out_85 rfl (lv_at hl 5 rfl) ?_
                    refine zt_getN hx hb hts in_X9 hown hK.1 hT hec0 rfl 1 (by decide) (va_Nw.use (A := args) rfl (hK.2.1.1 _ _ _ _ _ _ q901)) (fun _ h => h) rfl dX1_out_86 ?_
                    refine lv_icmp_ge (tgt := 96) hx hb dX1_out_89 (by decide) (fun c_30 => ?_) (fun c_30 => ?_)
                    · refine lv_iconst (v := 0) hx hb dX1_out_96 (by decide) ?_
                      refine lv_istore (lv' := [(7, .int 0), (6, .ref ez.1), (5, .ref it2), (4, .ref (S.A (11 + 1))), (3, .ref it), (2, .ref (S.A (11 + q0.1))), (1, .ref e0.1), (0, .ref (S.A 0))]) hx hb dX1_out_97 hl (by decide) rfl (fun ls hl => ?_)
                      refine lv_iload hx hb dX1_out_99 (lv_at hl 0 rfl) ?_
                      refine lv_if_eq (tgt := 109) hx hb dX1_out_101 (by decide) (fun _ => ?_) (fun c_31 => absurd (by decide) c_31)
                      refine lv_aload_n hx hb dX1_out_109 rfl (lv_at hl 5 rfl) ?_
                      refine lv_astore_n (lv' := [(2, .ref (S.A (11 + q0.1))), (7, .int 0), (6, .ref ez.1), (5, .ref it2), (4, .ref (S.A (11 + 1))), (3, .ref it), (1, .ref e0.1), (0, .ref (S.A 0))]) hx hb dX1_out_110 rfl hl (by decide) rfl (fun ls hl => ?_)
                      refine lv_iload hx hb dX1_out_111 (lv_at hl 1 rfl) ?_
                      refine lv_if_eq (tgt := 121) hx hb dX1_out_113 (by decide) (fun _ => ?_) (fun c_32 => absurd (by decide) c_32)
                      refine lv_aload_n hx hb dX1_out_121 rfl (lv_at hl 6 rfl) ?_
                      refine lv_astore_n (lv' := [(1, .ref e0.1), (2, .ref (S.A (11 + q0.1))), (7, .int 0), (6, .ref ez.1), (5, .ref it2), (4, .ref (S.A (11 + 1))), (3, .ref it), (0, .ref (S.A 0))]) hx hb dX1_out_122 rfl hl (by decide) rfl (fun ls hl => ?_)
                      have hzs : zo1 X 1 (zo2 X 1) (k + 1) = zos X 1 k (zo1 X 1 (zo2 X 1) k) := rfl
                      rw [← esl] at hzs
                      have ht0 := hRt _ hq1 _ _ he0
                      have htk := hRt 1 (by decide) _ _ he
                      have hzn : zo1 X 1 (zo2 X 1) (k + 1) = some q0 := hzs.trans (zos_ge (by rw [ht0, htk]; exact c_30))
                      have hl : lv_has ls 8 [(1, va_rf (zsA S (zo1 X 1 (zo2 X 1) (k + 1)))), (2, va_rf (zsI S (zo1 X 1 (zo2 X 1) (k + 1)))), (7, .int 0), (6, .ref ez.1), (5, .ref it2), (4, .ref (S.A (11 + 1))), (3, .ref it), (0, .ref (S.A 0))] := by rw [hzn, za]; exact hl
                      refine lv_goto (tgt := 54) hx hb dX1_out_123 (by decide) ?_
                      exact ih_25 (k + 1) (nI k) T (by omega) (by omega) hit hit2 hY _ _ _ hT hS (lv_sub hl [4, 5, 6, 1, 0, 7] rfl)
                    · refine lv_iconst (v := 1) hx hb dX1_out_92 (by decide) ?_
                      refine lv_goto (tgt := 97) hx hb dX1_out_93 (by decide) ?_
                      refine lv_istore (lv' := [(7, .int 1), (6, .ref ez.1), (5, .ref it2), (4, .ref (S.A (11 + 1))), (3, .ref it), (2, .ref (S.A (11 + q0.1))), (1, .ref e0.1), (0, .ref (S.A 0))]) hx hb dX1_out_97 hl (by decide) rfl (fun ls hl => ?_)
                      refine lv_iload hx hb dX1_out_99 (lv_at hl 0 rfl) ?_
                      refine lv_if_eq (tgt := 109) hx hb dX1_out_101 (by decide) (fun c_33 => absurd c_33 (by decide)) (fun _ => ?_)
                      refine lv_aload hx hb dX1_out_104 (lv_at hl 3 rfl) ?_
                      refine lv_goto (tgt := 110) hx hb dX1_out_106 (by decide) ?_
                      refine lv_astore_n (lv' := [(2, .ref (S.A (11 + 1))), (7, .int 1), (6, .ref ez.1), (5, .ref it2), (4, .ref (S.A (11 + 1))), (3, .ref it), (1, .ref e0.1), (0, .ref (S.A 0))]) hx hb dX1_out_110 rfl hl (by decide) rfl (fun ls hl => ?_)
                      refine lv_iload hx hb dX1_out_111 (lv_at hl 1 rfl) ?_
                      refine lv_if_eq (tgt := 121) hx hb dX1_out_113 (by decide) (fun c_34 => absurd c_34 (by decide)) (fun _ => ?_)
                      refine lv_aload hx hb dX1_out_116 (lv_at hl 2 rfl) ?_
                      refine lv_goto (tgt := 122) hx hb dX1_out_118 (by decide) ?_
                      refine lv_astore_n (lv' := [(1, .ref ez.1), (2, .ref (S.A (11 + 1))), (7, .int 1), (6, .ref ez.1), (5, .ref it2), (4, .ref (S.A (11 + 1))), (3, .ref it), (0, .ref (S.A 0))]) hx hb dX1_out_122 rfl hl (by decide) rfl (fun ls hl => ?_)
                      have hzs : zo1 X 1 (zo2 X 1) (k + 1) = zos X 1 k (zo1 X 1 (zo2 X 1) k) := rfl
                      rw [← esl] at hzs
                      have ht0 := hRt _ hq1 _ _ he0
                      have htk := hRt 1 (by decide) _ _ he
                      have hzn : zo1 X 1 (zo2 X 1) (k + 1) = some (1, k) := hzs.trans (zos_lt (by rw [ht0, htk]; exact c_30))
                      have hl : lv_has ls 8 [(1, va_rf (zsA S (zo1 X 1 (zo2 X 1) (k + 1)))), (2, va_rf (zsI S (zo1 X 1 (zo2 X 1) (k + 1)))), (7, .int 1), (6, .ref ez.1), (5, .ref it2), (4, .ref (S.A (11 + 1))), (3, .ref it), (0, .ref (S.A 0))] := by rw [hzn, (zsA_s (q := (1, k)) he)]; exact hl
                      refine lv_goto (tgt := 54) hx hb dX1_out_123 (by decide) ?_
                      exact ih_25 (k + 1) (nI k) T (by omega) (by omega) hit hit2 hY _ _ _ hT hS (lv_sub hl [4, 5, 6, 1, 0, 7] rfl)
            exact L_24 (((S.Rd 1).length + 1 - 0) + 1) 0 (-1) T (Nat.lt_succ_self _) (Nat.zero_le _) hit hit2 hY _ _ _ hT hS (lv_sub hl [0, 1, 2, 3, 4, 5] rfl)
          · have hcz : decide (2 < 3) = true := by decide
            have c_z := hcz
            refine lv_aload_n hx hb dX1_out_36 rfl (lv_at hl 0 rfl) ?_
            have hkit := of_decide_eq_true c_z
            refine zc5_q (zr_F (As := []) (rest := []) (hK.1.1 10 _ rfl).2 ⟨hx, hb, hml, hown, hts⟩ (ct_J16_next l g A _ _ _ _ hY.rds it 2 _ hit (by first | (simp; done) | (simp; omega))) zn_F_nxt (lw_F q779 q782 q784 q63 q786) hK.2.1.2.2.2.2.2.2.2.2.1 (by decide) (by decide) hK (fun _ h => h) hS hT (zt_recv hK.1 hT hit rfl) rfl hl.1 (Nat.le_of_ble_eq_true rfl) dX1_out_37 ⟨by show _ + 0 ≤ _; omega, by show _ + 0 ≤ _; omega⟩) hS (fun _ h => h) (fun r _ H locs hg_35 hT _ _ hS => ?_)
            obtain ⟨T, hT, hY, hit⟩ : ∃ T1, zTH g A T1 H ∧ zSy S g X T1 ∧ T1 it = some (.inl (zo 10 [.int (nI (2 + 1)), .int (nI 2), .int (S.mu 8), .ref (S.A 8)])) := ⟨_, hT, hY.itu hit _, va_up_self _ _ _⟩
            subst hg_35
            refine zm_top (v' := .ref (S.A (11 + 2))) rfl ?_
            refine va_castS hx hb hown (hts _ q113) (hK.1.1 9 _ rfl).2 (zt_recvL hK.1 hT (hY.ro (show 2 < 3 by decide))) dX1_out_42 ?_
            refine lv_astore (lv' := [(4, .ref (S.A (11 + 2))), (3, .ref it), (2, va_rf (zsI S (zo2 X 2))), (1, va_rf (zsA S (zo2 X 2))), (0, .ref (S.A 0))]) hx hb dX1_out_45 hl (by decide) (by cases (zsI S (zo2 X 2)) <;> cases (zsA S (zo2 X 2)) <;> rfl) (fun ls hl => ?_)
            refine lv_aload hx hb dX1_out_47 (lv_at hl 0 rfl) ?_
            refine zc_q (zr_V (As := []) (rest := []) ⟨hx, hb, hml, hown, hts⟩ (ct_J2_iterator l g A _ _ _ _ (hY.ro (show 2 < 3 by decide))) zn_J2_iterator (lw_V q745 q746 q747 q43 q748) rfl (by decide) (by decide) hK (fun _ h => h) hS hT (zt_recvL hK.1 hT (hY.ro (show 2 < 3 by decide))) rfl hl.1 (Nat.le_of_ble_eq_true rfl) dX1_out_49 ⟨by show _ + 1 ≤ _; omega, by show _ + 4 ≤ _; omega⟩) hS (fun _ h => h) (fun r it2 H locs hr1 hT _ _ hS => ?_)
            obtain ⟨rfl, hnit2⟩ := hr1
            have nehit : it ≠ it2 := fun z => by rw [z, hnit2] at hit; cases hit
            obtain ⟨T, hT, hY, hit2, hit⟩ : ∃ T1, zTH g A T1 H ∧ zSy S g X T1 ∧ T1 it2 = some (.inl (zo 10 [.int (nI 0), .int (-1), .int (S.mu (11 + 2)), .ref (S.A (11 + 2))])) ∧ T1 it = some (.inl (zo 10 [.int (nI (2 + 1)), .int (nI 2), .int (S.mu 8), .ref (S.A 8)])) := ⟨_, hT, hY.fresh hnit2 _, va_up_self _ _ _, (va_up_ne _ _ nehit).trans hit⟩
            refine zm_top (v' := .ref it2) rfl ?_
            refine lv_astore (lv' := [(5, .ref it2), (4, .ref (S.A (11 + 2))), (3, .ref it), (2, va_rf (zsI S (zo2 X 2))), (1, va_rf (zsA S (zo2 X 2))), (0, .ref (S.A 0))]) hx hb dX1_out_52 hl (by decide) (by cases (zsI S (zo2 X 2)) <;> cases (zsA S (zo2 X 2)) <;> rfl) (fun ls hl => ?_)
            have L_37 : ∀ (n_36 : Nat) (k : Nat) (lr2 : Int32) (T : zT), ((S.Rd 2).length + 1 - k) < n_36 → (k ≤ (S.Rd 2).length) → (T it = some (.inl (zo 10 [.int (nI (2 + 1)), .int (nI 2), .int (S.mu 8), .ref (S.A 8)]))) → (T it2 = some (.inl (zo 10 [.int (nI k), .int lr2, .int (S.mu (11 + 2)), .ref (S.A (11 + 2))]))) → (zSy S g X T) → ∀ (H : Heap) (locs : List Loc) (ls : Array Slot), zTH g A T H → va_S A s.heap H locs → lv_has ls 8 [(5, .ref it2), (4, .ref (S.A (11 + 2))), (3, .ref it), (2, va_rf (zsI S (zo1 X 2 (zo2 X 2) k))), (1, va_rf (zsA S (zo1 X 2 (zo2 X 2) k))), (0, .ref (S.A 0))] → W p l e (zR 7 8 40) s m args below meth c H locs ((2 + 2) + 1) ((10 + 4 * 2) + 4) (vx_MQ below (va_Qi (fun rz_ (u : zS × zT) => (rz_ = (m_out X).1 ∧ (m_out X).2 0 0 = 0) ∧ zSy u.1 g (m_out X).2 u.2 ∧ ∃ q, zo2 X 3 = some q ∧ u.1 = S.rS q.1 ((S.Rd q.1).eraseIdx q.2)) (fun u t => zTH g A u.2 t.heap) A) (zXC (fun E => E = xIS ∧ (m_out X).2 0 0 = 1) g A T_0) args s 8 40 A) (F0 m 54 ls []) := by
              intro n_36
              induction n_36 with
              | zero => intro k lr2 T hm; exact absurd hm (Nat.not_lt_zero _)
              | succ n_36 ih =>
                intro k lr2 T hm hk hit hit2 hY H locs ls hT hS hl
                have ih_38 := ih
                have hl4 := (hW.2 2 (by decide)).1
                refine lv_aload hx hb dX1_out_54 (lv_at hl 0 rfl) ?_
                refine zc5_i (zr_F (As := []) (rest := []) (hK.1.1 10 _ rfl).2 ⟨hx, hb, hml, hown, hts⟩ (ct_J16_hasNext l g A _ _ _ _ (hY.ro (show 2 < 3 by decide)) it2 k _ hit2 (by first | (simp; done) | (simp; omega)) (by first | (simp; done) | (simp; omega))) zn_F_has (lw_F q769 q773 q775 q63 q777) hK.2.1.2.2.2.2.2.2.2.1 (by decide) (by decide) hK (fun _ h => h) hS hT (zt_recv hK.1 hT hit2 rfl) rfl hl.1 (Nat.le_of_ble_eq_true rfl) dX1_out_56 ⟨by show _ + 0 ≤ _; omega, by show _ + 0 ≤ _; omega⟩) hS (fun _ h => h) (fun r _ H locs hr1 hT _ _ hS => ?_)
                subst hr1
                refine zm_topi (y := zb (decide (k < (S.Rd 2).length))) (by simp) ?_
                refine zl_ifeq (tgt := 126) hx hb dX1_out_61 (by decide) (fun c_39 => ?_) (fun c_39 => ?_)
                · have hkl : k = mR X 2 := by have := of_decide_eq_false c_39; rw [← hRl 2 (by decide)]; omega
                  have hl : lv_has ls 8 [(5, .ref it2), (4, .ref (S.A (11 + 2))), (3, .ref it), (2, va_rf (zsI S (zo2 X (2 + 1)))), (1, va_rf (zsA S (zo2 X (2 + 1)))), (0, .ref (S.A 0))] := by rw [hkl] at hl; exact hl
                  refine lv_goto (tgt := 27) hx hb dX1_out_126 (by decide) ?_
                  exact ih_7 (2 + 1) (nI 2) T (by omega) (by omega) hit hY _ _ _ hT hS (lv_sub hl [2, 3, 4, 5] rfl)
                · refine lv_aload hx hb dX1_out_64 (lv_at hl 0 rfl) ?_
                  have hkit2 := of_decide_eq_true c_39
                  refine zc5_q (zr_F (As := []) (rest := []) (hK.1.1 10 _ rfl).2 ⟨hx, hb, hml, hown, hts⟩ (ct_J16_next l g A _ _ _ _ (hY.ro (show 2 < 3 by decide)) it2 k _ hit2 (by first | (simp; done) | (simp; omega))) zn_F_nxt (lw_F q779 q782 q784 q63 q786) hK.2.1.2.2.2.2.2.2.2.2.1 (by decide) (by decide) hK (fun _ h => h) hS hT (zt_recv hK.1 hT hit2 rfl) rfl hl.1 (Nat.le_of_ble_eq_true rfl) dX1_out_66 ⟨by show _ + 0 ≤ _; omega, by show _ + 0 ≤ _; omega⟩) hS (fun _ h => h) (fun r _ H locs hg_40 hT _ _ hS => ?_)
                  obtain ⟨T, hT, hY, hit2, hit⟩ : ∃ T1, zTH g A T1 H ∧ zSy S g X T1 ∧ T1 it2 = some (.inl (zo 10 [.int (nI (k + 1)), .int (nI k), .int (S.mu (11 + 2)), .ref (S.A (11 + 2))])) ∧ T1 it = some (.inl (zo 10 [.int (nI (2 + 1)), .int (nI 2), .int (S.mu 8), .ref (S.A 8)])) := ⟨_, hT, hY.itu hit2 _, va_up_self _ _ _, (va_up_ne _ _ nehit).trans hit⟩
                  obtain ⟨ez, he⟩ : ∃ e, (S.Rd 2)[k]? = some e := ⟨_, List.getElem?_eq_getElem (by omega)⟩
                  have hem := List.mem_of_getElem? he
                  have hep := (hW.2 2 (by decide)).2 ez hem
                  have hec := hY.rd 2 (by decide) ez hem
                  unfold zCg at hec
                  have hg_40r : r = some ez.1 := by rw [hg_40]; exact Option.some.inj ((List.getElem?_eq_getElem _).symm.trans (by rw [List.getElem?_map, he]; rfl))
                  clear hg_40
                  subst hg_40r
                  refine zm_top (v' := .ref ez.1) rfl ?_
                  refine va_castS hx hb hown (hts _ q248) (hK.1.1 8 _ rfl).2 (zt_recv hK.1 hT hec (r := zCl[8]) rfl) dX1_out_71 ?_
                  refine lv_astore (lv' := [(6, .ref ez.1), (5, .ref it2), (4, .ref (S.A (11 + 2))), (3, .ref it), (2, va_rf (zsI S (zo1 X 2 (zo2 X 2) k))), (1, va_rf (zsA S (zo1 X 2 (zo2 X 2) k))), (0, .ref (S.A 0))]) hx hb dX1_out_74 hl (by decide) (by cases (zsI S (zo1 X 2 (zo2 X 2) k)) <;> cases (zsA S (zo1 X 2 (zo2 X 2) k)) <;> rfl) (fun ls hl => ?_)
                  obtain ⟨sl, esl⟩ : ∃ sl, sl = zo1 X 2 (zo2 X 2) k := ⟨_, rfl⟩
                  rw [← esl] at hl
                  rcases sl with _ | q0
                  · have hl : lv_has ls 8 [(6, .ref ez.1), (5, .ref it2), (4, .ref (S.A (11 + 2))), (3, .ref it), (2, .null), (1, .null), (0, .ref (S.A 0))] := hl
                    refine lv_aload_nN hx hb dX1_out_76 rfl (lv_at hl 5 rfl) ?_
                    refine lv_ifnullN (tgt := 92) hx hb dX1_out_77 (by decide) ?_
                    refine lv_iconst (v := 1) hx hb dX1_out_92 (by decide) ?_
                    refine lv_goto (tgt := 97) hx hb dX1_out_93 (by decide) ?_
                    refine lv_istore (lv' := [(7, .int 1), (6, .ref ez.1), (5, .ref it2), (4, .ref (S.A (11 + 2))), (3, .ref it), (2, .null), (1, .null), (0, .ref (S.A 0))]) hx hb dX1_out_97 hl (by decide) rfl (fun ls hl => ?_)
                    refine lv_iload hx hb dX1_out_99 (lv_at hl 0 rfl) ?_
                    refine lv_if_eq (tgt := 109) hx hb dX1_out_101 (by decide) (fun c_41 => absurd c_41 (by decide)) (fun _ => ?_)
                    refine lv_aload hx hb dX1_out_104 (lv_at hl 3 rfl) ?_
                    refine lv_goto (tgt := 110) hx hb dX1_out_106 (by decide) ?_
                    refine lv_astore_n (lv' := [(2, .ref (S.A (11 + 2))), (7, .int 1), (6, .ref ez.1), (5, .ref it2), (4, .ref (S.A (11 + 2))), (3, .ref it), (1, .null), (0, .ref (S.A 0))]) hx hb dX1_out_110 rfl hl (by decide) rfl (fun ls hl => ?_)
                    refine lv_iload hx hb dX1_out_111 (lv_at hl 1 rfl) ?_
                    refine lv_if_eq (tgt := 121) hx hb dX1_out_113 (by decide) (fun c_42 => absurd c_42 (by decide)) (fun _ => ?_)
                    refine lv_aload hx hb dX1_out_116 (lv_at hl 2 rfl) ?_
                    refine lv_goto (tgt := 122) hx hb dX1_out_118 (by decide) ?_
                    refine lv_astore_n (lv' := [(1, .ref ez.1), (2, .ref (S.A (11 + 2))), (7, .int 1), (6, .ref ez.1), (5, .ref it2), (4, .ref (S.A (11 + 2))), (3, .ref it), (0, .ref (S.A 0))]) hx hb dX1_out_122 rfl hl (by decide) rfl (fun ls hl => ?_)
                    have hzs : zo1 X 2 (zo2 X 2) (k + 1) = zos X 2 k (zo1 X 2 (zo2 X 2) k) := rfl
                    rw [← esl] at hzs
                    have hzn : zo1 X 2 (zo2 X 2) (k + 1) = some (2, k) := hzs
                    have hl : lv_has ls 8 [(1, va_rf (zsA S (zo1 X 2 (zo2 X 2) (k + 1)))), (2, va_rf (zsI S (zo1 X 2 (zo2 X 2) (k + 1)))), (7, .int 1), (6, .ref ez.1), (5, .ref it2), (4, .ref (S.A (11 + 2))), (3, .ref it), (0, .ref (S.A 0))] := by rw [hzn, (zsA_s (q := (2, k)) he)]; exact hl
                    refine lv_goto (tgt := 54) hx hb dX1_out_123 (by decide) ?_
                    exact ih_38 (k + 1) (nI k) T (by omega) (by omega) hit hit2 hY _ _ _ hT hS (lv_sub hl [4, 5, 6, 1, 0, 7] rfl)
                  · obtain ⟨hq1, hq2⟩ : q0.1 < 3 ∧ q0.2 < (S.Rd q0.1).length := by have h := zo1_ok (X := X) (r := 2) (s := zo2 X 2) (fun z hz => ⟨Nat.le_of_lt (zo2_ok _ z hz).1, (zo2_ok _ z hz).2⟩) k (by rw [← hRl 2 (by decide)]; omega) q0 esl.symm; have h1 : q0.1 < 3 := (by omega); exact ⟨h1, by rw [hRl _ h1]; exact h.2⟩
                    obtain ⟨e0, he0⟩ : ∃ e, (S.Rd q0.1)[q0.2]? = some e := ⟨_, List.getElem?_eq_getElem hq2⟩
                    have hem0 := List.mem_of_getElem? he0
                    have hep0 := (hW.2 _ hq1).2 e0 hem0
                    have hec0 := hY.rd _ hq1 e0 hem0
                    unfold zCg at hec0
                    have za : zsA S (some q0) = some e0.1 := zsA_s he0
                    have hl : lv_has ls 8 [(6, .ref ez.1), (5, .ref it2), (4, .ref (S.A (11 + 2))), (3, .ref it), (2, .ref (S.A (11 + q0.1))), (1, .ref e0.1), (0, .ref (S.A 0))] := by rw [za] at hl; exact hl
                    refine lv_aload_n hx hb dX1_out_76 rfl (lv_at hl 5 rfl) ?_
                    refine lv_ifnull hx hb dX1_out_77 ?_
                    refine lv_aload hx hb dX1_out_80 (lv_at hl 0 rfl) ?_
                    refine zt_getN hx hb hts in_X9 hown hK.1 hT hec rfl 1 (by decide) (va_Nw.use (A := args) rfl (hK.2.1.1 _ _ _ _ _ _ q901)) (fun _ h => h) rfl dX1_out_82 ?_
                    refine lv_aload_n hx hb dX1_out_85 rfl (lv_at hl 5 rfl) ?_
                    refine zt_getN hx hb hts in_X9 hown hK.1 hT hec0 rfl 1 (by decide) (va_Nw.use (A := args) rfl (hK.2.1.1 _ _ _ _ _ _ q901)) (fun _ h => h) rfl dX1_out_86 ?_
                    refine lv_icmp_ge (tgt := 96) hx hb dX1_out_89 (by decide) (fun c_43 => ?_) (fun c_43 => ?_)
                    · refine lv_iconst (v := 0) hx hb dX1_out_96 (by decide) ?_
                      refine lv_istore (lv' := [(7, .int 0), (6, .ref ez.1), (5, .ref it2), (4, .ref (S.A (11 + 2))), (3, .ref it), (2, .ref (S.A (11 + q0.1))), (1, .ref e0.1), (0, .ref (S.A 0))]) hx hb dX1_out_97 hl (by decide) rfl (fun ls hl => ?_)
                      refine lv_iload hx hb dX1_out_99 (lv_at hl 0 rfl) ?_
                      refine lv_if_eq (tgt := 109) hx hb dX1_out_101 (by decide) (fun _ => ?_) (fun c_44 => absurd (by decide) c_44)
                      refine lv_aload_n hx hb dX1_out_109 rfl (lv_at hl 5 rfl) ?_
                      refine lv_astore_n (lv' := [(2, .ref (S.A (11 + q0.1))), (7, .int 0), (6, .ref ez.1), (5, .ref it2), (4, .ref (S.A (11 + 2))), (3, .ref it), (1, .ref e0.1), (0, .ref (S.A 0))]) hx hb dX1_out_110 rfl hl (by decide) rfl (fun ls hl => ?_)
                      refine lv_iload hx hb dX1_out_111 (lv_at hl 1 rfl) ?_
                      refine lv_if_eq (tgt := 121) hx hb dX1_out_113 (by decide) (fun _ => ?_) (fun c_45 => absurd (by decide) c_45)
                      refine lv_aload_n hx hb dX1_out_121 rfl (lv_at hl 6 rfl) ?_
                      refine lv_astore_n (lv' := [(1, .ref e0.1), (2, .ref (S.A (11 + q0.1))), (7, .int 0), (6, .ref ez.1), (5, .ref it2), (4, .ref (S.A (11 + 2))), (3, .ref it), (0, .ref (S.A 0))]) hx hb dX1_out_122 rfl hl (by decide) rfl (fun ls hl => ?_)
                      have hzs : zo1 X 2 (zo2 X 2) (k + 1) = zos X 2 k (zo1 X 2 (zo2 X 2) k) := rfl
                      rw [← esl] at hzs
                      have ht0 := hRt _ hq1 _ _ he0
                      have htk := hRt 2 (by decide) _ _ he
                      have hzn : zo1 X 2 (zo2 X 2) (k + 1) = some q0 := hzs.trans (zos_ge (by rw [ht0, htk]; exact c_43))
                      have hl : lv_has ls 8 [(1, va_rf (zsA S (zo1 X 2 (zo2 X 2) (k + 1)))), (2, va_rf (zsI S (zo1 X 2 (zo2 X 2) (k + 1)))), (7, .int 0), (6, .ref ez.1), (5, .ref it2), (4, .ref (S.A (11 + 2))), (3, .ref it), (0, .ref (S.A 0))] := by rw [hzn, za]; exact hl
                      refine lv_goto (tgt := 54) hx hb dX1_out_123 (by decide) ?_
                      exact ih_38 (k + 1) (nI k) T (by omega) (by omega) hit hit2 hY _ _ _ hT hS (lv_sub hl [4, 5, 6, 1, 0, 7] rfl)
                    · refine lv_iconst (v := 1) hx hb dX1_out_92 (by decide) ?_
                      refine lv_goto (tgt := 97) hx hb dX1_out_93 (by decide) ?_
                      refine lv_istore (lv' := [(7, .int 1), (6, .ref ez.1), (5, .ref it2), (4, .ref (S.A (11 + 2))), (3, .ref it), (2, .ref (S.A (11 + q0.1))), (1, .ref e0.1), (0, .ref (S.A 0))]) hx hb dX1_out_97 hl (by decide) rfl (fun ls hl => ?_)
                      refine lv_iload hx hb dX1_out_99 (lv_at hl 0 rfl) ?_
                      refine lv_if_eq (tgt := 109) hx hb dX1_out_101 (by decide) (fun c_46 => absurd c_46 (by decide)) (fun _ => ?_)
                      refine lv_aload hx hb dX1_out_104 (lv_at hl 3 rfl) ?_
                      refine lv_goto (tgt := 110) hx hb dX1_out_106 (by decide) ?_
                      refine lv_astore_n (lv' := [(2, .ref (S.A (11 + 2))), (7, .int 1), (6, .ref ez.1), (5, .ref it2), (4, .ref (S.A (11 + 2))), (3, .ref it), (1, .ref e0.1), (0, .ref (S.A 0))]) hx hb dX1_out_110 rfl hl (by decide) rfl (fun ls hl => ?_)
                      refine lv_iload hx hb dX1_out_111 (lv_at hl 1 rfl) ?_
                      refine lv_if_eq (tgt := 121) hx hb dX1_out_113 (by decide) (fun c_47 => absurd c_47 (by decide)) (fun _ => ?_)
                      refine lv_aload hx hb dX1_out_116 (lv_at hl 2 rfl) ?_
                      refine lv_goto (tgt := 122) hx hb dX1_out_118 (by decide) ?_
                      refine lv_astore_n (lv' := [(1, .ref ez.1), (2, .ref (S.A (11 + 2))), (7, .int 1), (6, .ref ez.1), (5, .ref it2), (4, .ref (S.A (11 + 2))), (3, .ref it), (0, .ref (S.A 0))]) hx hb dX1_out_122 rfl hl (by decide) rfl (fun ls hl => ?_)
                      have hzs : zo1 X 2 (zo2 X 2) (k + 1) = zos X 2 k (zo1 X 2 (zo2 X 2) k) := rfl
                      rw [← esl] at hzs
                      have ht0 := hRt _ hq1 _ _ he0
                      have htk := hRt 2 (by decide) _ _ he
                      have hzn : zo1 X 2 (zo2 X 2) (k + 1) = some (2, k) := hzs.trans (zos_lt (by rw [ht0, htk]; exact c_43))
                      have hl : lv_has ls 8 [(1, va_rf (zsA S (zo1 X 2 (zo2 X 2) (k + 1)))), (2, va_rf (zsI S (zo1 X 2 (zo2 X 2) (k + 1)))), (7, .int 1), (6, .ref ez.1), (5, .ref it2), (4, .ref (S.A (11 + 2))), (3, .ref it), (0, .ref (S.A 0))] := by rw [hzn, (zsA_s (q := (2, k)) he)]; exact hl
                      refine lv_goto (tgt := 54) hx hb dX1_out_123 (by decide) ?_
                      exact ih_38 (k + 1) (nI k) T (by omega) (by omega) hit hit2 hY _ _ _ hT hS (lv_sub hl [4, 5, 6, 1, 0, 7] rfl)
            exact L_37 (((S.Rd 2).length + 1 - 0) + 1) 0 (-1) T (Nat.lt_succ_self _) (Nat.zero_le _) hit hit2 hY _ _ _ hT hS (lv_sub hl [0, 1, 2, 3, 4, 5] rfl)
    exact L_6 ((4 - 0) + 1) 0 (-1) T (Nat.lt_succ_self _) (by decide) hit hY _ _ _ hT hS (lv_sub hl [0, 1, 2, 3] rfl)
