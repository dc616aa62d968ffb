/-! comes, night, out keep the invariant -/
theorem zIv.quz {t : Nat} {S S' : zS} {X Y : zX} (h : zIv t S X) (e : ∀ k, k ≠ 0 → k ≠ 12 → k < 26 → Y k = X k) (h12 : ∀ p, Y 12 p = X 12 p ∨ Y 12 p = 0 ∨ (Y 12 p = 1 ∧ p < mN X)) (hK : S'.K = S.K) (hT : S'.TL = S.TL) (hL : S'.L = S.L) (hQ : zQu S' Y) : zIv (t + 1) S' Y := by
  obtain ⟨i1, i2, i3, i4, i5, i6, i7, i8, i9, i10⟩ := h
  have e1 : mN Y = mN X := by unfold mN; rw [e 1 (by decide) (by decide) (by decide)]
  refine ⟨i1.cg (e 1 (by decide) (by decide) (by decide)) (e 2 (by decide) (by decide) (by decide)) (e 5 (by decide) (by decide) (by decide)) hK, i2.of (e 1 (by decide) (by decide) (by decide)) (e 4 (by decide) (by decide) (by decide)) (e 21 (by decide) (by decide) (by decide)) (fun k hk p => ?_) (fun k hk p _ => by rw [e k (by omega) (by omega) (by omega)]) (fun p => by rw [e 8 (by decide) (by decide) (by decide)]; exact i2.2.2.2.2 p), i3.cg (e 1 (by decide) (by decide) (by decide)) (e 13 (by decide) (by decide) (by decide)) (e 14 (by decide) (by decide) (by decide)), ?_,
    i5.cg (e 1 (by decide) (by decide) (by decide)) (e 16 (by decide) (by decide) (by decide)) (e 17 (by decide) (by decide) (by decide)), i6.cg (e 1 (by decide) (by decide) (by decide)) (e 9 (by decide) (by decide) (by decide)) (e 18 (by decide) (by decide) (by decide)), i7.cg (Nat.le_succ t) (e 1 (by decide) (by decide) (by decide)) (e 6 (by decide) (by decide) (by decide)) (e 15 (by decide) (by decide) (by decide)) (e 19 (by decide) (by decide) (by decide)),
    (i8.up (Nat.le_succ t)).cg e1 (e 5 (by decide) (by decide) (by decide)) (e 23 (by decide) (by decide) (by decide)) (e 24 (by decide) (by decide) (by decide)) (e 25 (by decide) (by decide) (by decide)) hT, (i9.up (Nat.le_succ t)).cg e1 (e 2 (by decide) (by decide) (by decide)) (e 5 (by decide) (by decide) (by decide)) (e 6 (by decide) (by decide) (by decide)) hL, hQ⟩
  · by_cases c : k = 12
    · subst c; exact h12 p
    · exact Or.inl (by rw [e k (by omega) c (by omega)])
  · exact i4.of e1 (e 2 (by decide) (by decide) (by decide)) (e 5 (by decide) (by decide) (by decide)) (fun t _ _ z => by rw [hK]; exact z) (fun t _ z => by rw [e 11 (by decide) (by decide) (by decide)] at z; exact z) (fun t _ _ p _ _ => ⟨fun z => by rw [e 9 (by decide) (by decide) (by decide)]; exact z, fun _ z => z.cg (by rw [e 13 (by decide) (by decide) (by decide)]) (by rw [e 14 (by decide) (by decide) (by decide)])⟩)
theorem zIv.comes {t : Nat} {S : zS} {X : zX} (h : zIv t S X) {i : Nat} (hi : i < mN X) {tm : Int32} (hc : mCm X i tm = true) (q : Nat) : zIv (t + 1) (S.wA (q, i, tm)) (zu (zu (zu (zu X 0 0 0) 27 (mW X) (nI i)) 28 i tm) 26 0 (nI (mW X + 1))) := by
  unfold mCm at hc
  simp only [Bool.and_eq_true, decide_eq_true_eq, Bool.not_eq_true'] at hc
  obtain ⟨⟨⟨⟨c1, c2⟩, c3⟩, c4⟩, c5⟩ := hc
  refine h.quz (fun k a b c => by rw [zu_row_ne _ _ _ (by omega), zu_row_ne _ _ _ (by omega), zu_row_ne _ _ _ (by omega), zu_row_ne _ _ _ a]) (fun p => Or.inl ?_) rfl rfl rfl (h.2.2.2.2.2.2.2.2.2.comes h.1.1.1.2 hi c1 c2 c3 rfl)
  rw [zu_row_ne _ _ _ (by decide), zu_row_ne _ _ _ (by decide), zu_row_ne _ _ _ (by decide), zu_row_ne _ _ _ (by decide)]
theorem mNg_12 {P : zX} (hQ : MQw P) : ∀ j, j ≤ mW P → ∀ p, mNg P j 12 p = P 12 p ∨ (mNg P j 12 p = 1 ∧ p < mN P) := by
  intro j
  induction j with
  | zero => intro _ p; exact Or.inl rfl
  | succ j ih =>
    intro hj p
    show mNg1 (mNg P j) j 12 p = _ ∨ (mNg1 (mNg P j) j 12 p = 1 ∧ _)
    unfold mNg1
    have ew : mWt (mNg P j) j = mWt P j := by unfold mWt; rw [mNg_cg P (by decide) (by decide) (by decide) j]
    by_cases c : p = mWt (mNg P j) j
    · right; rw [c, zu_s, ew]; exact ⟨rfl, (hQ j (by omega)).2⟩
    · rw [zu_n _ _ _ _ (fun z => c z.2), zu_n _ _ _ _ (fun z => by omega), zu_n _ _ _ _ (fun z => by omega)]; exact ih (by omega) p
theorem zIv.night {t : Nat} {S : zS} {X : zX} (h : zIv t S X) (h0 : ¬ (mW X = 0 ∨ 0 < mR X 0 + mR X 1 + mR X 2)) (q : Nat) : zIv (t + 1) ((zNS (S.gv (zsr S true)) S.Wt.length).nw q) (zu (mNg (m_plans (zu X 0 0 0)).2 (mW X)) 26 0 0) := by
  have hr : ∀ r, r < 3 → mR X r = 0 := fun r hr => by
    have : r = 0 ∨ r = 1 ∨ r = 2 := by omega
    rcases this with rfl | rfl | rfl <;> omega
  have hpr : zPr (zu X 0 0 0) (m_plans (zu X 0 0 0)).2 := mPs_pr _ _
  have hq : MQw (m_plans (zu X 0 0 0)).2 := hpr.eQ (fun k hk => by
    rw [mW_w _ _ _ _ (by decide)] at hk
    rw [mWt_w _ _ _ _ (by decide), mN_w _ _ _ _ (by decide), zu_row_ne _ _ _ (by decide)]
    exact h.2.2.2.2.2.2.2.2.2.mq h.1.1.1.2 k hk)
  have hw : mW (m_plans (zu X 0 0 0)).2 = mW X := by rw [hpr.eW, mW_w _ _ _ _ (by decide)]
  have hN : mN (m_plans (zu X 0 0 0)).2 = mN X := by rw [hpr.eN, mN_w _ _ _ _ (by decide)]
  have ks := zNS_k (S.gv (zsr S true)) S.Wt.length
  refine h.quz (fun k a b c => by rw [zu_row_ne _ _ _ (by omega), mNg_cg _ (by omega) (by omega) b, hpr k (by omega) (by omega), zu_row_ne _ _ _ a]) (fun p => ?_) ks.2.2.2.1 ks.2.2.2.2.1 ks.2.2.2.2.2.1 (h.2.2.2.2.2.2.2.2.2.night h.1.1.1.2 hr rfl)
  rw [zu_row_ne _ _ _ (by decide)]
  rcases mNg_12 hq (mW X) (by omega) p with c | c
  · left; rw [c, hpr 12 (by decide) (by decide), zu_row_ne _ _ _ (by decide)]
  · right; right; exact ⟨c.1, by omega⟩
theorem zIv.out {t : Nat} {S : zS} {X : zX} (h : zIv t S X) {q : Nat × Nat} (hq : zo2 X 3 = some q) : zIv (t + 1) (S.rS q.1 ((S.Rd q.1).eraseIdx q.2)) (m_out X).2 := by
  have hz := h.2.2.2.2.2.2.2.2.2.out h.1.1.1.2 hq
  have e : (m_out X).2 = zu (zsh (zu (zu X 0 0 0) 12 (X 32 (4 * q.1 + q.2)).toNatClampNeg 0) q.1 q.2 (mR X q.1 - 1 - q.2)) 31 q.1 (nI (mR X q.1) - 1) := by unfold m_out; rw [hq]
  rw [e] at hz ⊢
  refine h.quz (fun k a b c => by rw [zu_row_ne _ _ _ (by omega), zsh_cg _ _ _ (by omega), zu_row_ne _ _ _ b, zu_row_ne _ _ _ a]) (fun p => ?_) rfl rfl rfl hz
  rw [zu_row_ne _ _ _ (by decide), zsh_cg _ _ _ (by decide)]
  by_cases c : p = (X 32 (4 * q.1 + q.2)).toNatClampNeg
  · right; left; rw [c, zu_s]
  · left; rw [zu_n _ _ _ _ (fun z => c z.2), zu_row_ne _ _ _ (by decide)]
