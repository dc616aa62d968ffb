/-! WHAT EACH CALL OWES, out of the invariant; AND ITS STEP -/
theorem zbt {b : Bool} (h : ¬ b = false) : b = true := by
  cases b with
  | false => exact absurd rfl h
  | true => rfl
theorem zis {X : zX} {x : Int32} (hI : MH X) (c : ¬ mIs X x = false) : x.toNatClampNeg < mN X ∧ x = nI x.toNatClampNeg := by
  obtain ⟨p, hp, e⟩ := mIs_t hI (zbt c)
  have hn := hI.1.2
  have e2 : x.toNatClampNeg = p := by rw [e]; exact nI_clamp (by omega)
  exact ⟨by omega, by rw [e2]; exact e⟩
theorem zkc {X : zX} {x k : Int32} (hI : MH X) (c : ¬ ¬ mKc X x k = 0) : x.toNatClampNeg < mN X ∧ x = nI x.toNatClampNeg ∧ X 2 x.toNatClampNeg = k := by
  have z := Classical.not_not.mp c
  rcases mKc_c hI x k with ⟨_, e⟩ | ⟨p, _, _, _, e⟩ | ⟨p, hp, e, e2, _⟩
  · rw [e] at z; exact absurd z (by decide)
  · rw [e] at z; exact absurd z (by decide)
  · have hn := hI.1.2
    have e3 : x.toNatClampNeg = p := by rw [e]; exact nI_clamp (by omega)
    exact ⟨by omega, by rw [e3]; exact e, by rw [e3]; exact e2⟩
section PZ
variable {t : Nat} {S : zS} {X : zX}
theorem zIv.I (h : zIv t S X) : MH X := h.1.1
theorem zIv.n60 (h : zIv t S X) : mN X ≤ 60 := h.1.1.1.2
theorem zIv.z9 (h : zIv t S X) : ∀ p, X 9 p = 0 ∨ X 9 p = 1 := fun p => (h.2.1.1 p).1
theorem zIv.z10 (h : zIv t S X) : ∀ p, X 10 p = 0 ∨ X 10 p = 1 := fun p => (h.2.1.1 p).2.1
theorem zIv.z11 (h : zIv t S X) : ∀ p, X 11 p = 0 ∨ X 11 p = 1 := fun p => (h.2.1.1 p).2.2.1
theorem zIv.z12 (h : zIv t S X) : ∀ p, X 12 p = 0 ∨ X 12 p = 1 := fun p => (h.2.1.1 p).2.2.2
theorem zIv.qu (h : zIv t S X) : zQu S X := h.2.2.2.2.2.2.2.2.2
theorem zIv.tm (h : zIv t S X) : zTm t S X := h.2.2.2.2.2.2.2.1
theorem zIv.lg (h : zIv t S X) : zLg t S X := h.2.2.2.2.2.2.2.2.1
theorem zIv.to (h : zIv t S X) (ht : t ≤ 99) : zTo S X := h.tm.to (by omega)
theorem zIv.lo (h : zIv t S X) (ht : t ≤ 99) : zLo S X := h.lg.lo ht
theorem zIv.m23 (h : zIv t S X) (ht : t ≤ 99) : X 23 0 = nI (mM X) ∧ mM X < 3000 := ⟨h.tm.1.1, by have := h.tm.1.2; omega⟩
theorem zIv.w26 (h : zIv t S X) : X 26 0 = nI (mW X) ∧ mW X ≤ 8 := ⟨h.qu.1.1, h.qu.1.2.1⟩
theorem zIv.rel (h : zIv t S X) : ∀ p, p < mN X → (S.K p).length = 0 → X 11 p = 0 := fun p hp hl => by
  apply Classical.byContradiction
  intro z
  exact (h.2.2.2.1 p hp z).2.1 (List.eq_nil_of_length_eq_zero hl)
theorem zIv.cn2 (h : zIv t S X) : ∀ i, i < mN X → X 2 i = 2 → (S.K i).countP (fun q => decide (X 2 q = 3)) = mIn X (nI i) 3 ∧ mIn X (nI i) 3 ≤ 2 := fun i hi h2 => by
  have a1 := h.1.cn hi (show ¬ (3 : Int32) = -1 by decide)
  have a2 := h.1.2.2.2 i hi 3 (by decide)
  rw [h2] at a2
  have a3 : (mPl 2 (nI 3)).toNatClampNeg = 2 := by decide
  have a4 : (S.K i).countP (fun q => decide (X 2 q = nI 3)) = (S.K i).countP (fun q => decide (X 2 q = 3)) := rfl
  exact ⟨a1, by omega⟩
theorem zIv.fl (h : zIv t S X) (ht : t ≤ 99) (km : Int32) : ∀ i, i < mN X → X 2 i = 0 → ¬ X 11 i = 0 → zin km 1 2000 = true → ∀ p ∈ zDn S 5 i, zfl X km p := by
  intro i hi h2 h11 hkm p hp
  obtain ⟨hpl, hd⟩ := (zDn_hd h.1 hi (h.1.tr hi h2)).mp hp
  obtain ⟨-, -, k3⟩ := h.2.2.2.1 i hi h11
  obtain ⟨w, w1, w2, w3⟩ := h.2.2.2.2.2.1 p hpl
  obtain ⟨a, b, r, a1, a2, a3, a4, a5, a6⟩ := h.2.2.2.2.2.2.1 p hpl
  obtain ⟨k, hk2, rfl⟩ := nI_of2 (n := 2000) (x := km) rfl (Int32.not_lt.mpr (Int32.le_trans (by decide) (zin_t hkm).1)) (zin_t hkm).2
  exact zfl_ok w1 (w3 (k3 p hpl hd).1) a1 a2 a4 (by omega) hk2
theorem zIv.BB (h : zIv t S X) : zBB S X := zBB_of h.1 h.2.2.1.dm
theorem zIv.sr (h : zIv t S X) (b : Bool) : (zsr S b).1 = (m_plans (zu X 0 0 0)).1 ∧ (∀ k, k < S.Wt.length → (zsr S b).2.2 k = (m_plans (zu X 0 0 0)).2 29 k) ∧ (∀ k, k < S.Wt.length → ∃ r, r < 3 ∧ (m_plans (zu X 0 0 0)).2 29 k = nI r) ∧ ∀ r, r < 3 → zct (fun k => decide (((m_plans (zu X 0 0 0)).2 29 k).toNatClampNeg = r)) S.Wt.length ≤ 4 :=
  zsearch h.qu.1.2.2 (by have := h.qu.1.2.1; have := h.qu.1.2.2; omega) (h.qu.wt h.n60) b
theorem zIv.bst (h : zIv t S X) : mBst (m_plans (zu X 0 0 0)).2 := by
  obtain ⟨-, -, s3, s4⟩ := h.sr true
  have hpr : zPr (zu X 0 0 0) (m_plans (zu X 0 0 0)).2 := mPs_pr _ _
  have hw : mW (m_plans (zu X 0 0 0)).2 = S.Wt.length := by rw [hpr.eW, mW_w _ _ _ _ (by decide)]; exact h.qu.1.2.2.symm
  unfold mBst
  rw [hw]
  refine ⟨fun k hk => ?_, s4⟩
  obtain ⟨r, hr, e⟩ := s3 k hk
  have e2 : ((m_plans (zu X 0 0 0)).2 29 k).toNatClampNeg = r := by rw [e]; exact nI_clamp (by omega)
  exact ⟨by rw [e2]; exact e, by omega⟩
theorem zIv.bf (h : zIv t S X) : ∀ k, k < S.Wt.length → ∃ r, r < 3 ∧ (S.gv (zsr S true)).bf k = nI r := fun k hk => by
  obtain ⟨-, s2, s3, -⟩ := h.sr true
  obtain ⟨r, hr, e⟩ := s3 k hk
  exact ⟨r, hr, (s2 k hk).trans e⟩
theorem zIv.mq (h : zIv t S X) : MQw X := h.qu.mq h.n60
theorem zIv.mr (h : zIv t S X) : MR X := h.qu.mr h.n60
/-- a call's step: what it throws leaves all but its code; what it answers keeps the invariant -/
def zStep (t : Nat) (S : zS) (X Y : zX) (R : zS → Prop) : Prop := (¬ Y 0 0 = 0 → Y = zu X 0 0 (Y 0 0)) ∧ (Y 0 0 = 0 → ∀ S', R S' → zIv (t + 1) S' Y ∧ S'.A 0 = S.A 0)
theorem zStep.bad {R : zS → Prop} {c : Int32} (hc : ¬ c = 0) : zStep t S X (zu X 0 0 c) R :=
  ⟨fun _ => congrArg (zu X 0 0) (zu_s X 0 0 c).symm, fun z => absurd ((zu_s X 0 0 c).symm.trans z) hc⟩
theorem zStep.good {Y : zX} {R : zS → Prop} (h0 : Y 0 0 = 0) (h : ∀ S', R S' → zIv (t + 1) S' Y ∧ S'.A 0 = S.A 0) : zStep t S X Y R := ⟨fun z => absurd h0 z, fun _ => h⟩
theorem zStep.same {Y : zX} (h0 : Y 0 0 = 0) (h : zIv (t + 1) S Y) : zStep t S X Y (fun S' => S' = S) := zStep.good h0 (fun S' e => by subst e; exact ⟨h, rfl⟩)
theorem zIv.thr (h : zIv t S X) (c : Int32) : zIv (t + 1) S (zu X 0 0 c) := h.hid (Nat.le_succ t) (fun k a _ _ => zu_row_ne _ _ _ a) rfl rfl rfl rfl rfl
theorem zStep.rd (h : zIv t S X) : zStep t S X (zu X 0 0 0) (fun S' => S' = S) := zStep.same (zu_s _ _ _ _) (h.thr 0)
theorem zp_part (h : zIv t S X) (kd a d : Int32) : zStep t S X (m_part X kd a d).2 (fun S' => ∃ q b1 b2 b3, S' = S.pA (mN X) q b1 b2 b3) := by
  unfold m_part
  split
  · exact zStep.bad (c := 1) (by decide)
  · next c1 =>
    split
    · exact zStep.bad (c := 2) (by decide)
    · next c2 =>
      have hn := h.n60
      refine zStep.good (by simp [zu]) (fun S' hS => ?_)
      obtain ⟨q, b1, b2, b3, rfl⟩ := hS
      refine ⟨h.part (by omega) (zbt (fun z => c1 (Or.inl z))) (zbt (fun z => c1 (Or.inr (Or.inr z)))) q b1 b2 b3, ?_⟩
      show va_up (va_up (va_up (va_up S.A (20 + 4 * mN X) q) (21 + 4 * mN X) b1) (22 + 4 * mN X) b2) (23 + 4 * mN X) b3 0 = S.A 0
      rw [va_up_ne _ _ (by omega), va_up_ne _ _ (by omega), va_up_ne _ _ (by omega), va_up_ne _ _ (by omega)]
theorem zp_limits (h : zIv t S X) (kd a b d : Int32) : zStep t S X (m_limits X kd a b d).2 (fun S' => S' = S) := by
  unfold m_limits
  split
  · next c => exact zStep.same (by simp [zu]) (h.limits _ a b d (Int32.not_lt.mpr (zin_t c.2.2.1).1))
  · exact zStep.bad (c := 1) (by decide)
theorem zp_fit (h : zIv t S X) (ht : t ≤ 99) (x y : Int32) : zStep t S X (m_fit X x y).2 (fun S' => ∃ q, S' = ((S.kS y.toNatClampNeg (S.K y.toNatClampNeg ++ [x.toNatClampNeg])).tA x.toNatClampNeg (some y.toNatClampNeg)).lA (q, x.toNatClampNeg, some y.toNatClampNeg, 0)) := by
  unfold m_fit
  split
  · exact zStep.bad (c := 1) (by decide)
  · next c1 =>
    split
    · exact zStep.bad (c := 2) (by decide)
    · next c2 =>
      split
      · next c3 =>
        obtain ⟨hx, ex⟩ := zis h.I (fun z => c1 (Or.inl z))
        obtain ⟨hy, ey⟩ := zis h.I (fun z => c1 (Or.inr z))
        refine zStep.good (by simp [m_ends, m_moves, zu]) (fun S' hS => ?_)
        obtain ⟨q, rfl⟩ := hS
        have h2 := h.fit (by omega) hx hy c2 c3 q
        rw [← ey] at h2
        exact ⟨h2, rfl⟩
      · exact zStep.bad (c := 3) (by decide)
theorem zp_take (h : zIv t S X) (ht : t ≤ 99) (x : Int32) : zStep t S X (m_take X x).2 (fun S' => ∃ q, S' = ((S.kS (mH X x.toNatClampNeg) ((S.K (mH X x.toNatClampNeg)).erase x.toNatClampNeg)).tA x.toNatClampNeg none).lA (q, x.toNatClampNeg, none, 0)) := by
  unfold m_take
  split
  · exact zStep.bad (c := 1) (by decide)
  · next c1 =>
    split
    · exact zStep.bad (c := 2) (by decide)
    · next c2 =>
      obtain ⟨hx, ex⟩ := zis h.I c1
      refine zStep.good (by simp [m_ends, m_moves, zu]) (fun S' hS => ?_)
      obtain ⟨q, rfl⟩ := hS
      exact ⟨h.take (by omega) hx (fun z => c2 (Or.inl z)) q, rfl⟩
theorem zp_scrap (h : zIv t S X) (ht : t ≤ 99) (x : Int32) : zStep t S X (m_scrap X x) (fun S' => S' = S.tA x.toNatClampNeg none) := by
  unfold m_scrap
  split
  · exact zStep.bad (c := 1) (by decide)
  · next c1 =>
    split
    · exact zStep.bad (c := 2) (by decide)
    · next c2 =>
      obtain ⟨hx, ex⟩ := zis h.I c1
      refine zStep.good (by simp [m_moves, zu]) (fun S' hS => ?_)
      subst hS
      exact ⟨h.scrap (by omega) hx (Classical.not_not.mp (fun z => c2 (Or.inl z))), rfl⟩
theorem zp_run (h : zIv t S X) (ht : t ≤ 99) (x km se : Int32) : zStep t S X (m_run X x km se).2 (fun S' => ∃ q, S' = S.lA (q, x.toNatClampNeg, none, km)) := by
  unfold m_run
  by_cases c1 : ¬ mKc X x 0 = 0
  · rw [if_pos c1]; exact zStep.bad c1
  · rw [if_neg c1]
    by_cases c2 : zin km 1 2000 = false ∨ zin se 0 3 = false
    · rw [if_pos c2]; exact zStep.bad (c := 2) (by decide)
    · rw [if_neg c2]
      by_cases c3 : X 11 x.toNatClampNeg = 0 ∨ ¬ X 12 (mHd X x.toNatClampNeg) = 0
      · rw [if_pos c3]; exact zStep.bad (c := 3) (by decide)
      · rw [if_neg c3]
        obtain ⟨hx, ex, h2⟩ := zkc h.I c1
        have h0 := (zrun h.1 h.z9 hx h2 km se).1
        refine zStep.good ?_ (fun S' hS => ?_)
        · show (if (mRn x.toNatClampNeg km se (mN X) (zu (zu X 0 0 0) 11 x.toNatClampNeg 0, -1)).2 = -1 then (mRn x.toNatClampNeg km se (mN X) (zu (zu X 0 0 0) 11 x.toNatClampNeg 0, -1)).1 else mHl (mRn x.toNatClampNeg km se (mN X) (zu (zu X 0 0 0) 11 x.toNatClampNeg 0, -1)).1 x.toNatClampNeg (mN X)) 0 0 = 0
          by_cases c4 : (mRn x.toNatClampNeg km se (mN X) (zu (zu X 0 0 0) 11 x.toNatClampNeg 0, -1)).2 = -1
          · rw [if_pos c4]; exact h0
          · rw [if_neg c4, mHl_cg _ _ (by decide)]; exact h0
        · obtain ⟨q, rfl⟩ := hS
          exact ⟨h.run ht hx h2 (fun z => c3 (Or.inl z)) (zbt (fun z => c2 (Or.inl z))) (zbt (fun z => c2 (Or.inr z))) q, rfl⟩
theorem zp_turn (h : zIv t S X) (x : Int32) : zStep t S X (m_turn X x).2 (fun S' => S' = S) := by
  unfold m_turn
  by_cases c1 : ¬ mKc X x 2 = 0
  · rw [if_pos c1]; exact zStep.bad c1
  · rw [if_neg c1]
    by_cases c2 : ¬ 2 ≤ mIn X x 3 ∨ ¬ X 12 (mHd X x.toNatClampNeg) = 0
    · rw [if_pos c2]; exact zStep.bad (c := 3) (by decide)
    · rw [if_neg c2]
      obtain ⟨hx, ex, h2⟩ := zkc h.I c1
      have hc : 2 ≤ mIn X x 3 := Classical.not_not.mp (fun z => c2 (Or.inl z))
      have hc2 := hc
      rw [ex] at hc2
      have h3 := h.turn hx h2 hc2
      rw [← ex] at h3
      refine zStep.same ?_ h3
      generalize (mWo X x false).toNatClampNeg = a
      generalize (mWo X x true).toNatClampNeg = b
      have e : ∀ v w, zu (zu (m_trues (m_trues (zu X 0 0 0) a).2 b).2 13 a v) 13 b w 0 0 = 0 := fun v w => by
        rw [zu_n _ _ _ _ (fun z => absurd z.1 (by decide)), zu_n _ _ _ _ (fun z => absurd z.1 (by decide)), m_trues_keep _ _ (by decide) (by decide), m_trues_keep _ _ (by decide) (by decide), zu_s]
      exact e (mTuL (zu X 0 0 0) a b) (mTuL (zu X 0 0 0) a b)
theorem zp_gate (h : zIv t S X) (x er : Int32) : zStep t S X (m_gate X x er).2 (fun S' => S' = S) := by
  unfold m_gate
  by_cases c1 : ¬ mKc X x 3 = 0
  · rw [if_pos c1]; exact zStep.bad c1
  · rw [if_neg c1]
    by_cases c2 : zin er (-5) 5 = false
    · rw [if_pos c2]; exact zStep.bad (c := 2) (by decide)
    · rw [if_neg c2]
      exact zStep.same (by simp [zu]) (h.gate (zkc h.I c1).1 (zbt c2))
theorem zp_examine (h : zIv t S X) (x : Int32) : zStep t S X (m_examine X x).2 (fun S' => S' = S) := by
  unfold m_examine
  split
  · exact zStep.bad (c := 1) (by decide)
  · next c1 =>
    split
    · exact zStep.same (by simp [zu]) (h.examine (zis h.I c1).1)
    · exact zStep.bad (c := 2) (by decide)
theorem zp_waive (h : zIv t S X) (x km : Int32) : zStep t S X (m_waive X x km) (fun S' => S' = S) := by
  unfold m_waive
  split
  · exact zStep.bad (c := 1) (by decide)
  · next c1 =>
    split
    · exact zStep.bad (c := 2) (by decide)
    · next c2 =>
      split
      · exact zStep.bad (c := 3) (by decide)
      · exact zStep.same (by simp [zu]) (h.waive (zis h.I c1).1 (zbt c2))
theorem zp_flaw (h : zIv t S X) (x sz : Int32) : zStep t S X (m_flaw X x sz).2 (fun S' => S' = S) := by
  unfold m_flaw
  split
  · exact zStep.bad (c := 1) (by decide)
  · next c1 =>
    split
    · exact zStep.bad (c := 2) (by decide)
    · next c2 => exact zStep.same (by simp [zu]) (h.flaw (zis h.I c1).1 (zbt (fun z => c2 (Or.inr z))))
theorem zp_look (h : zIv t S X) (x : Int32) (b : Bool) : zStep t S X (m_look X x b).2 (fun S' => S' = S) := by
  unfold m_look
  by_cases c1 : mIs X x = false
  · rw [if_pos c1]; exact zStep.bad (c := 1) (by decide)
  · rw [if_neg c1]
    by_cases c2 : X 5 x.toNatClampNeg = -2 ∨ ¬ X 12 (mHd X x.toNatClampNeg) = 0 ∨ (b = true ∧ ¬ X 5 x.toNatClampNeg = -1)
    · rw [if_pos c2]; exact zStep.bad (c := 2) (by decide)
    · rw [if_neg c2]
      by_cases c3 : ¬ X 18 x.toNatClampNeg < (if b = true then 3 else 10)
      · rw [if_pos c3]; exact zStep.same (by simp [m_holds, m_ends, zu]) (h.holds (zis h.I c1).1)
      · rw [if_neg c3]
        refine zStep.same (by simp [zu]) (h.looked (zis h.I c1).1 ?_)
        split
        · exact Or.inr rfl
        · exact Or.inl rfl
theorem zp_clear (h : zIv t S X) (x : Int32) : zStep t S X (m_clear X x).2 (fun S' => S' = S) := by
  unfold m_clear
  split
  · exact zStep.bad (c := 1) (by decide)
  · next c1 =>
    split
    · exact zStep.bad (c := 2) (by decide)
    · exact zStep.same (by simp [zu]) (h.clear (zis h.I c1).1)
theorem zp_recall (h : zIv t S X) (a : Int32) : zStep t S X (m_recall X a).2 (fun S' => S' = S) := by
  unfold m_recall
  split
  · exact zStep.bad (c := 1) (by decide)
  · refine zStep.same ?_ (h.recall a)
    show (zrc (zu X 0 0 0) a (mN X)).2 0 0 = 0
    rw [zrc_cg _ _ (by decide) (by decide), zu_s]
theorem zp_release (h : zIv t S X) (x : Int32) : zStep t S X (m_release X x).2 (fun S' => S' = S) := by
  unfold m_release
  by_cases c1 : ¬ mKc X x 0 = 0
  · rw [if_pos c1]; exact zStep.bad c1
  · rw [if_neg c1]
    obtain ⟨hx, ex, h2⟩ := zkc h.I c1
    exact zStep.same (by simp [zu]) (h.release hx h2)
theorem zp_comes (h : zIv t S X) (x tm : Int32) : zStep t S X (m_comes X x tm).2 (fun S' => ∃ q, S' = S.wA (q, x.toNatClampNeg, tm)) := by
  unfold m_comes
  by_cases c1 : ¬ mKc X x 0 = 0
  · rw [if_pos c1]; exact zStep.bad c1
  · rw [if_neg c1]
    by_cases c2 : zin tm 0 99 = false
    · rw [if_pos c2]; exact zStep.bad (c := 2) (by decide)
    · rw [if_neg c2]
      by_cases c3 : mCm X x.toNatClampNeg tm = true
      · rw [if_pos c3]
        obtain ⟨hx, ex, h2⟩ := zkc h.I c1
        refine zStep.good (by simp [zu]) (fun S' hS => ?_)
        obtain ⟨q, rfl⟩ := hS
        have h3 := h.comes hx c3 q
        rw [← ex] at h3
        exact ⟨h3, rfl⟩
      · rw [if_neg c3]; exact zStep.bad (c := 3) (by decide)
theorem zp_night (h : zIv t S X) : zStep t S X (m_night X).2 (fun S' => ∃ q, S' = (zNS (S.gv (zsr S true)) S.Wt.length).nw q) := by
  unfold m_night
  by_cases c1 : mW X = 0 ∨ 0 < mR X 0 + mR X 1 + mR X 2
  · rw [if_pos c1]; exact zStep.bad (c := 1) (by decide)
  · rw [if_neg c1]
    refine zStep.good ?_ (fun S' hS => ?_)
    · show zu (mNg (m_plans (zu X 0 0 0)).2 (mW X)) 26 0 0 0 0 = 0
      have hpr : zPr (zu X 0 0 0) (m_plans (zu X 0 0 0)).2 := mPs_pr _ _
      rw [zu_n _ _ _ _ (fun z => absurd z.1 (by decide)), mNg_cg _ (by decide) (by decide) (by decide), hpr 0 (by decide) (by decide), zu_s]
    · obtain ⟨q, rfl⟩ := hS
      refine ⟨h.night c1 q, ?_⟩
      show va_up (zNS (S.gv (zsr S true)) S.Wt.length).A 7 q 0 = S.A 0
      rw [va_up_ne _ _ (by decide), (zNS_k (S.gv (zsr S true)) S.Wt.length).1]
      rfl
theorem zp_out (h : zIv t S X) : zStep t S X (m_out X).2 (fun S' => ∃ q, zo2 X 3 = some q ∧ S' = S.rS q.1 ((S.Rd q.1).eraseIdx q.2)) := by
  cases hq : zo2 X 3 with
  | none =>
    have e : m_out X = (0, zu X 0 0 1) := by unfold m_out; rw [hq]
    rw [e]; exact zStep.bad (c := 1) (by decide)
  | some q =>
    refine zStep.good ?_ (fun S' hS => ?_)
    · have e : (m_out X).2 = zu (zsh (zu (zu X 0 0 0) 12 (X 32 (4 * q.1 + q.2)).toNatClampNeg 0) q.1 q.2 (mR X q.1 - 1 - q.2)) 31 q.1 (nI (mR X q.1) - 1) := by unfold m_out; rw [hq]
      rw [e, zu_n _ _ _ _ (fun z => absurd z.1 (by decide)), zsh_cg _ _ _ (by decide), zu_n _ _ _ _ (fun z => absurd z.1 (by decide)), zu_s]
    · obtain ⟨q', e, rfl⟩ := hS
      cases e
      exact ⟨h.out hq, rfl⟩
theorem zp_plan (h : zIv t S X) : (m_plan X).2 0 0 = 0 ∧ ∀ s3, zIv (t + 1) (S.gv s3) (m_plan X).2 := by
  have e : ∀ k, k ≠ 0 → k ≠ 29 → k ≠ 30 → (m_plan X).2 k = X k := fun k a b c => by
    unfold m_plan
    split
    · exact zu_row_ne _ _ _ a
    · have hpr : zPr (zu X 0 0 0) (m_plans (zu X 0 0 0)).2 := mPs_pr _ _
      rw [hpr k b c]; exact zu_row_ne _ _ _ a
  refine ⟨?_, fun s3 => h.hid (Nat.le_succ t) e rfl rfl rfl rfl rfl⟩
  unfold m_plan
  split
  · exact zu_s X 0 0 0
  · have hpr : zPr (zu X 0 0 0) (m_plans (zu X 0 0 0)).2 := mPs_pr _ _
    rw [hpr 0 (by decide) (by decide)]; exact zu_s _ _ _ _
theorem zp_host (h : zIv t S X) (x : Int32) : zStep t S X (m_host X x).2 (fun S' => S' = S) := by
  unfold m_host
  split
  · exact zStep.bad (c := 1) (by decide)
  · exact zStep.rd h
theorem zp_head (h : zIv t S X) (x : Int32) : zStep t S X (m_head X x).2 (fun S' => S' = S) := by
  unfold m_head
  split
  · exact zStep.bad (c := 1) (by decide)
  · exact zStep.rd h
theorem zp_life (h : zIv t S X) (x : Int32) : zStep t S X (m_life X x).2 (fun S' => S' = S) := by
  unfold m_life
  split
  · exact zStep.bad (c := 1) (by decide)
  · exact zStep.rd h
theorem zp_ofPart (h : zIv t S X) (x w : Int32) : zStep t S X (m_ofPart X x w).2 (fun S' => S' = S) := by
  unfold m_ofPart
  by_cases c1 : mIs X x = false
  · rw [if_pos c1]; exact zStep.bad (c := 1) (by decide)
  · rw [if_neg c1]
    by_cases c2 : zin w 0 8 = false
    · rw [if_pos c2]; exact zStep.bad (c := 2) (by decide)
    · rw [if_neg c2]; exact zStep.rd h
theorem zp_trace (h : zIv t S X) (x v : Int32) : zStep t S X (m_trace X x v).2 (fun S' => S' = S) := by
  unfold m_trace
  split
  · exact zStep.bad (c := 1) (by decide)
  · exact zStep.rd h
theorem zp_wheel (h : zIv t S X) (x w : Int32) : zStep t S X (m_wheel X x w).2 (fun S' => S' = S) := by
  unfold m_wheel
  by_cases c1 : ¬ mKc X x 3 = 0
  · rw [if_pos c1]; exact zStep.bad c1
  · rw [if_neg c1]
    by_cases c2 : zin w 0 2 = false
    · rw [if_pos c2]; exact zStep.bad (c := 2) (by decide)
    · rw [if_neg c2]; exact zStep.rd h
theorem zp_foretell (h : zIv t S X) (x km se : Int32) : zStep t S X (m_foretell X x km se).2 (fun S' => S' = S) := by
  unfold m_foretell
  by_cases c1 : ¬ mKc X x 3 = 0
  · rw [if_pos c1]; exact zStep.bad c1
  · rw [if_neg c1]
    by_cases c2 : zin km 1 2000 = false ∨ zin se 0 3 = false
    · rw [if_pos c2]; exact zStep.bad (c := 2) (by decide)
    · rw [if_neg c2]; exact zStep.rd h
theorem zp_bars (h : zIv t S X) (x : Int32) : zStep t S X (m_bars X x).2 (fun S' => S' = S) := by
  unfold m_bars
  by_cases c1 : ¬ mKc X x 0 = 0
  · rw [if_pos c1]; exact zStep.bad c1
  · rw [if_neg c1]; exact zStep.rd h
theorem zp_barredBy (h : zIv t S X) (x : Int32) : zStep t S X (m_barredBy X x).2 (fun S' => S' = S) := by
  unfold m_barredBy
  by_cases c1 : ¬ mKc X x 0 = 0
  · rw [if_pos c1]; exact zStep.bad c1
  · rw [if_neg c1]; exact zStep.rd h
theorem zp_isRel (h : zIv t S X) (x : Int32) : zStep t S X (zu X 0 0 (mKc X x 0)) (fun S' => S' = S) := by
  by_cases c1 : mKc X x 0 = 0
  · rw [c1]; exact zStep.rd h
  · exact zStep.bad c1
theorem zp_road (h : zIv t S X) (r k : Int32) : zStep t S X (m_road X r k).2 (fun S' => S' = S) := by
  unfold m_road
  by_cases c1 : zin r 0 2 = false ∨ k < 0
  · rw [if_pos c1]; exact zStep.bad (c := 1) (by decide)
  · rw [if_neg c1]; exact zStep.rd h
end PZ
