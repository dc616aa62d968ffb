/-! part, fit, take, scrap keep the invariant -/
theorem mHf_new {X Y : zX} (hI : MH X) (h5 : ∀ p, p < mN X → Y 5 p = X 5 p) : ∀ k p, p < mN X → mHf Y k p = mHf X k p := by
  intro k
  induction k with
  | zero => intro p _; rfl
  | succ k ih =>
    intro p hp
    show (if Y 5 p < 0 then p else mHf Y k (mH Y p)) = (if X 5 p < 0 then p else mHf X k (mH X p))
    have e : mH Y p = mH X p := by unfold mH; rw [h5 p hp]
    rw [h5 p hp, e]
    by_cases c : X 5 p < 0
    · rw [if_pos c, if_pos c]
    · rw [if_neg c, if_neg c]; exact ih _ (hI.host hp c).2.1
theorem zIv.part {t : Nat} {S : zS} {X : zX} (h : zIv t S X) (h60 : mN X < 60) {kd a d : Int32} (hk : zin kd 0 4 = true) (hd : zin d 0 3 = true) (q b1 b2 b3 : Nat) :
    zIv (t + 1) (S.pA (mN X) q b1 b2 b3) (zu (zu (zu (zu (zu (zu (zu (zu X 0 0 0) 2 (mN X) kd) 3 (mN X) a) 4 (mN X) d) 5 (mN X) (-1)) 13 (mN X) 9000) 14 (mN X) 300) 1 0 (nI (mN X + 1))) := by
  obtain ⟨Y, eY⟩ : ∃ Y, Y = zu (zu (zu (zu (zu (zu (zu (zu X 0 0 0) 2 (mN X) kd) 3 (mN X) a) 4 (mN X) d) 5 (mN X) (-1)) 13 (mN X) 9000) 14 (mN X) 300) 1 0 (nI (mN X + 1)) := ⟨_, rfl⟩
  rw [← eY]
  obtain ⟨kn, hkn, rfl⟩ := zin_n (b := 4) rfl hk
  obtain ⟨dn, hdn, rfl⟩ := zin_n (b := 3) rfl hd
  obtain ⟨i1, ⟨r1, r2, r3, r4, r5⟩, i3, i4, i5, i6, i7, i8, i9, i10⟩ := h
  have e : ∀ k, k ≠ 0 → k ≠ 1 → k ≠ 2 → k ≠ 3 → k ≠ 4 → k ≠ 5 → k ≠ 13 → k ≠ 14 → Y k = X k := fun k a0 a1 a2 a3 a4 a5 a13 a14 => by rw [eY, zu_row_ne _ _ _ a1, zu_row_ne _ _ _ a14, zu_row_ne _ _ _ a13, zu_row_ne _ _ _ a5, zu_row_ne _ _ _ a4, zu_row_ne _ _ _ a3, zu_row_ne _ _ _ a2, zu_row_ne _ _ _ a0]
  have f1 : Y 1 0 = nI (mN X + 1) := by rw [eY, zu_s]
  have fe : ∀ k v, (k = 2 ∨ k = 4 ∨ k = 5 ∨ k = 13 ∨ k = 14) → Y k (mN X) = v → ∀ p, Y k p = if p = mN X then v else X k p := fun k v hk hv p => by
    by_cases c : p = mN X
    · rw [if_pos c, c, hv]
    · rw [if_neg c, eY, zu_n _ _ _ _ (by omega), zu_n _ _ _ _ (by omega), zu_n _ _ _ _ (by omega), zu_n _ _ _ _ (by omega), zu_n _ _ _ _ (by omega), zu_n _ _ _ _ (by omega), zu_n _ _ _ _ (by omega), zu_n _ _ _ _ (by omega)]
  have f2 := fe 2 (nI kn) (by omega) (by rw [eY]; simp [zu])
  have f4 := fe 4 (nI dn) (by omega) (by rw [eY]; simp [zu])
  have f5 := fe 5 (-1) (by omega) (by rw [eY]; simp [zu])
  have f13 := fe 13 9000 (by omega) (by rw [eY]; simp [zu])
  have f14 := fe 14 300 (by omega) (by rw [eY]; simp [zu])
  clear fe
  have e1 : mN Y = mN X + 1 := by unfold mN; rw [f1]; exact nI_clamp (by have := h60; unfold mN at this; omega)
  have eh : ∀ k, (6 ≤ k ∧ k ≤ 12) ∨ (15 ≤ k) → Y k = X k := fun k hk => e k (by omega) (by omega) (by omega) (by omega) (by omega) (by omega) (by omega) (by omega)
  have z0 := r2 (mN X) (Nat.le_refl _)
  have g2 : ∀ p, p < mN X → Y 2 p = X 2 p := fun p hp => by rw [f2, if_neg (by omega)]
  have g5 : ∀ p, p < mN X → Y 5 p = X 5 p := fun p hp => by rw [f5, if_neg (by omega)]
  have hd0 : ∀ p, p < mN X → mHd Y p = mHd X p := fun p hp => mHf_new i1.1 g5 5 p hp
  refine ⟨i1.new hkn h60 f1 f2 f5 rfl, ⟨fun p => ?_, fun p hp => ?_, fun p hp => ?_, fun k => ?_, fun p => ?_⟩, fun p hp => ?_, fun t ht hy => ?_, fun p hp h17 => ?_, fun p hp => ?_, fun p hp => ?_, (i8.new h60 e1 g5 (eh 23 (by omega)) (eh 24 (by omega)) (eh 25 (by omega)) rfl).up (Nat.le_succ t),
    (i9.new e1 g2 g5 (by rw [f5, if_pos rfl]) (fun p _ => by rw [eh 6 (by omega)]) (by rw [eh 6 (by omega)]; exact z0.1) rfl h60).up (Nat.le_succ t), i10.cg (by omega) (fun p _ => by rw [eh 12 (by omega)]) (eh 26 (by omega)) (eh 27 (by omega)) (eh 28 (by omega)) (eh 31 (by omega)) (eh 32 (by omega)) rfl rfl⟩
  · rw [eh 9 (by omega), eh 10 (by omega), eh 11 (by omega), eh 12 (by omega)]; exact r1 p
  · rw [e1] at hp
    rw [eh 6 (by omega), eh 7 (by omega), eh 8 (by omega), eh 9 (by omega), eh 10 (by omega), eh 11 (by omega), eh 12 (by omega), eh 15 (by omega), eh 16 (by omega), eh 17 (by omega), eh 18 (by omega), eh 19 (by omega)]
    exact r2 p (by omega)
  · rw [e1] at hp
    rw [f4]
    split
    · exact ⟨dn, by omega, rfl⟩
    · exact r3 p (by omega)
  · rw [eh 21 (by omega)]; exact r4 k
  · rw [eh 8 (by omega)]; exact r5 p
  · rw [e1] at hp
    rw [f13, f14]
    split
    · exact ⟨300, 9000, rfl, rfl, by omega, by omega, by omega, by omega⟩
    · exact i3 p (by omega)
  · rw [e1] at ht
    rw [eh 11 (by omega)] at hy
    have ht2 : t < mN X := by
      apply Classical.byContradiction
      intro c
      have : t = mN X := by omega
      rw [this] at hy
      exact hy z0.2.2.2.2.2.1
    obtain ⟨k1, k2, k3⟩ := i4 t ht2 hy
    refine ⟨by rw [g2 t ht2]; exact k1, ?_, fun p hp hd => ?_⟩
    · show ¬ va_up S.K (mN X) [] t = []
      rw [va_up_ne _ _ (show t ≠ mN X by omega)]; exact k2
    · rw [e1] at hp
      by_cases c : p = mN X
      · exfalso
        have : mHd Y p = p := mHd_top (by rw [f5, if_pos c]; decide)
        omega
      · rw [hd0 p (by omega)] at hd
        obtain ⟨j1, j2⟩ := k3 p (by omega) hd
        refine ⟨by rw [eh 9 (by omega)]; exact j1, fun h3 => ?_⟩
        rw [g2 p (by omega)] at h3
        exact (j2 h3).cg (by rw [f13, if_neg c]) (by rw [f14, if_neg c])
  · rw [e1] at hp
    rw [eh 17 (by omega)] at h17
    rw [eh 16 (by omega)]
    by_cases c : p = mN X
    · rw [c] at h17; exact absurd z0.2.2.2.2.2.2.2.2.2.1 h17
    · exact i5 p (by omega) h17
  · rw [e1] at hp
    rw [eh 18 (by omega), eh 9 (by omega)]
    by_cases c : p = mN X
    · exact ⟨0, by rw [c]; exact z0.2.2.2.2.2.2.2.2.2.2.1, by omega, fun _ => by omega⟩
    · exact i6 p (by omega)
  · rw [e1] at hp
    rw [eh 6 (by omega), eh 19 (by omega), eh 15 (by omega)]
    by_cases c : p = mN X
    · exact ⟨0, 0, 0, by rw [c]; exact z0.1, by rw [c]; exact z0.2.2.2.2.2.2.2.2.2.2.2, by rw [c]; exact z0.2.2.2.2.2.2.2.1, by omega, by omega, by omega⟩
    · obtain ⟨a, b, r, k1, k2, k3, k4, k5, k6⟩ := i7 p (by omega)
      exact ⟨a, b, r, k1, k2, k3, k4, by omega, by omega⟩
/-- heads, when one part moves -/
theorem zhd_mv {X Y : zX} (hI : MH X) (hJ : MH Y) (h1 : mN Y = mN X) (h2 : Y 2 = X 2) {i : Nat} (h5 : ∀ p, p ≠ i → Y 5 p = X 5 p) : ∀ n p, p < mN X → mK X p ≤ n → mHd Y p = mHd X p ∨ (mHd Y p = mHd Y i ∧ mHd X p = mHd X i) := by
  intro n
  induction n with
  | zero =>
    intro p hp hk
    by_cases c : p = i
    · subst c; exact Or.inr ⟨rfl, rfl⟩
    · by_cases z : X 5 p < 0
      · left; rw [mHd_top z, mHd_top (by rw [h5 p c]; exact z)]
      · have := (hI.host hp z).2.2; omega
  | succ n ih =>
    intro p hp hk
    by_cases c : p = i
    · subst c; exact Or.inr ⟨rfl, rfl⟩
    · by_cases z : X 5 p < 0
      · left; rw [mHd_top z, mHd_top (by rw [h5 p c]; exact z)]
      · have hh := hI.host hp z
        have e : mH Y p = mH X p := by unfold mH; rw [h5 p c]
        rw [mHd_host hI hp z, mHd_host hJ (by omega) (by rw [h5 p c]; exact z), e]
        exact ih _ hh.2.1 (by omega)
theorem zRl.of2 {S S' : zS} {X Y : zX} (h : zRl S X) (h1 : mN Y = mN X) (h2 : Y 2 = X 2) (h9 : Y 9 = X 9) (h13 : Y 13 = X 13) (h14 : Y 14 = X 14) (h11 : ∀ t, t < mN X → ¬ Y 11 t = 0 → ¬ X 11 t = 0) (hK : ∀ t, t < mN X → ¬ Y 11 t = 0 → ¬ S.K t = [] → ¬ S'.K t = []) (hd : ∀ t, t < mN X → ¬ Y 11 t = 0 → ∀ p, p < mN X → mHd Y p = t → mHd X p = t) : zRl S' Y := by
  intro t ht hy
  rw [h1] at ht
  obtain ⟨k1, k2, k3⟩ := h t ht (h11 t ht hy)
  refine ⟨by rw [h2]; exact k1, hK t ht hy k2, fun p hp hq => ?_⟩
  rw [h1] at hp
  obtain ⟨j1, j2⟩ := k3 p hp (hd t ht hy p hp hq)
  refine ⟨by rw [h9]; exact j1, fun h3 => ?_⟩
  rw [h2] at h3
  exact (j2 h3).cg (by rw [h13]) (by rw [h14])
theorem zIv.mvd {t : Nat} {S S' : zS} {X Y : zX} (h : zIv t S X) (e : ∀ k, k ≠ 0 → k ≠ 5 → k ≠ 11 → k ≠ 23 → k ≠ 24 → k ≠ 25 → Y k = X k) (h11 : ∀ p, Y 11 p = X 11 p ∨ Y 11 p = 0) (b : zBt S' Y) (r : zRl S' Y) (m : zTm (t + 1) S' Y) (l : zLg (t + 1) S' Y) (hW : S'.Wt = S.Wt) (hR : S'.Rd = S.Rd) : zIv (t + 1) S' Y := by
  obtain ⟨i1, i2, i3, i4, i5, i6, i7, i8, i9, i10⟩ := h
  have eh : ∀ k, k ≠ 0 → k < 23 ∨ 25 < k → k ≠ 5 → k ≠ 11 → Y k = X k := fun k a b c d => e k a c d (by omega) (by omega) (by omega)
  have e1 : mN Y = mN X := by unfold mN; rw [eh 1 (by omega) (by omega) (by omega) (by omega)]
  refine ⟨b, i2.of (eh 1 (by omega) (by omega) (by omega) (by omega)) (eh 4 (by omega) (by omega) (by omega) (by omega)) (eh 21 (by omega) (by omega) (by omega) (by omega)) (fun k hk p => ?_) (fun k hk p hp => by rw [eh k (by omega) (by omega) (by omega) (by omega)]) (fun p => by rw [eh 8 (by omega) (by omega) (by omega) (by omega)]; exact i2.2.2.2.2 p),
    i3.cg (eh 1 (by omega) (by omega) (by omega) (by omega)) (eh 13 (by omega) (by omega) (by omega) (by omega)) (eh 14 (by omega) (by omega) (by omega) (by omega)), r, i5.cg (eh 1 (by omega) (by omega) (by omega) (by omega)) (eh 16 (by omega) (by omega) (by omega) (by omega)) (eh 17 (by omega) (by omega) (by omega) (by omega)), i6.cg (eh 1 (by omega) (by omega) (by omega) (by omega)) (eh 9 (by omega) (by omega) (by omega) (by omega)) (eh 18 (by omega) (by omega) (by omega) (by omega)),
    i7.cg (Nat.le_succ t) (eh 1 (by omega) (by omega) (by omega) (by omega)) (eh 6 (by omega) (by omega) (by omega) (by omega)) (eh 15 (by omega) (by omega) (by omega) (by omega)) (eh 19 (by omega) (by omega) (by omega) (by omega)), m, l, i10.cg (by omega) (fun p _ => by rw [eh 12 (by omega) (by omega) (by omega) (by omega)]) (eh 26 (by omega) (by omega) (by omega) (by omega)) (eh 27 (by omega) (by omega) (by omega) (by omega)) (eh 28 (by omega) (by omega) (by omega) (by omega)) (eh 31 (by omega) (by omega) (by omega) (by omega)) (eh 32 (by omega) (by omega) (by omega) (by omega)) hW hR⟩
  by_cases c : k = 11
  · subst c
    rcases h11 p with z | z
    · exact Or.inl z
    · exact Or.inr (Or.inl z)
  · exact Or.inl (by rw [eh k (by omega) (by omega) (by omega) c])
theorem zmv_24 (X : zX) : mM (zu X 0 0 0) = mM X := mM_w _ _ _ _ (by decide)
theorem zIv.fit {t : Nat} {S : zS} {X : zX} (h : zIv t S X) (ht : t < 100) {i a : Nat} (hi : i < mN X) (ha : a < mN X) (hm : ¬ mPl (X 2 a) (X 2 i) = 0) (hc : mCan X i a = true) (q : Nat) : zIv (t + 1) (((S.kS a (S.K a ++ [i])).tA i (some a)).lA (q, i, some a, 0)) (m_ends (m_moves (zu X 0 0 0) i (nI a)) i) := by
  have hn := h.1.1.1.2
  obtain ⟨Y, eY⟩ : ∃ Y, Y = m_ends (m_moves (zu X 0 0 0) i (nI a)) i := ⟨_, rfl⟩
  rw [← eY]
  have e : ∀ k, k ≠ 0 → k ≠ 5 → k ≠ 11 → k ≠ 23 → k ≠ 24 → k ≠ 25 → Y k = X k := fun k a0 a5 a11 a23 a24 a25 => by rw [eY]; unfold m_ends m_moves; rw [zu_row_ne _ _ _ a11, zu_row_ne _ _ _ a23, zu_row_ne _ _ _ a25, zu_row_ne _ _ _ a24, zu_row_ne _ _ _ a5, zu_row_ne _ _ _ a0]
  have e5 : ∀ p, Y 5 p = if p = i then nI a else X 5 p := fun p => by rw [eY]; unfold m_ends m_moves; simp [zu]
  have e24 : ∀ p, Y 24 p = if p = mM X then nI i else X 24 p := fun p => by rw [eY]; unfold m_ends m_moves; rw [zmv_24]; simp [zu]
  have e25 : ∀ p, Y 25 p = if p = mM X then nI a else X 25 p := fun p => by rw [eY]; unfold m_ends m_moves; rw [zmv_24]; simp [zu]
  have e23 : Y 23 0 = nI (mM X + 1) := by rw [eY]; unfold m_ends m_moves; rw [zmv_24]; simp [zu]
  have e11 : ∀ p, Y 11 p = if p = mHd Y i then 0 else X 11 p := fun p => by
    have : mHd Y i = mHd (m_moves (zu X 0 0 0) i (nI a)) i := by rw [eY]; unfold m_ends; exact mHd_w _ _ _ _ (by decide) _
    rw [this, eY]; unfold m_ends
    by_cases c : p = mHd (m_moves (zu X 0 0 0) i (nI a)) i
    · rw [if_pos c, c, zu_s]
    · rw [if_neg c, zu_n _ _ _ _ (fun z => c z.2)]; unfold m_moves; simp [zu]
  have e1 : mN Y = mN X := by unfold mN; rw [e 1 (by omega) (by omega) (by omega) (by omega) (by omega) (by omega)]
  have e2 : Y 2 = X 2 := e 2 (by omega) (by omega) (by omega) (by omega) (by omega) (by omega)
  unfold mCan at hc
  simp only [Bool.and_eq_true, decide_eq_true_eq] at hc
  obtain ⟨⟨⟨⟨⟨⟨c1, c2⟩, c3⟩, c4⟩, c5⟩, c6⟩, c7⟩ := hc
  have hlt : mK X a < mK X i := mPl_lt h.1.1 hi ha hm
  have hcp : nI ((S.K a).countP (fun q => decide (X 2 q = X 2 i))) < mPl (X 2 a) (X 2 i) := by
    rw [h.1.cn ha (show ¬ X 2 i = -1 from fun z => by
      obtain ⟨k1, k2⟩ := h.1.1.2.1 i hi
      rw [k1] at z
      exact nI_nm1 (by omega) z)]
    exact Int32.not_le.mp c5
  have hB : zBt (((S.kS a (S.K a ++ [i])).tA i (some a)).lA (q, i, some a, 0)) Y := h.1.fit hi ha c1 hm hcp (e 1 (by omega) (by omega) (by omega) (by omega) (by omega) (by omega)) e2 (funext (fun p => by rw [e5]; simp [zu])) rfl
  refine h.mvd e (fun p => by rw [e11]; split; exact Or.inr rfl; exact Or.inl rfl) hB (h.2.2.2.1.of2 e1 e2 (e 9 (by omega) (by omega) (by omega) (by omega) (by omega) (by omega)) (e 13 (by omega) (by omega) (by omega) (by omega) (by omega) (by omega)) (e 14 (by omega) (by omega) (by omega) (by omega) (by omega) (by omega)) (fun t _ z => ?_) (fun t _ _ z => ?_) (fun t _ z p hp hd => ?_))
    (h.2.2.2.2.2.2.2.1.mv (i := i) (o := some a) (to := nI a) ht hn hi (by rw [c1]; decide) (fun q hq => by cases hq; exact ha) (Or.inr ⟨nI_nm2 (by omega), rfl⟩) e1 e5 e23 e24 e25 rfl)
    (h.2.2.2.2.2.2.2.2.1.mv (q := q) (i := i) (o := some a) hi (fun b hb => by cases hb; exact ⟨ha, hlt⟩) e1 e2 e5 (e 6 (by omega) (by omega) (by omega) (by omega) (by omega) (by omega)) rfl) rfl rfl
  · rw [e11] at z; split at z
    · exact absurd rfl z
    · exact z
  · show ¬ va_up S.K a (S.K a ++ [i]) t = []
    by_cases c : t = a
    · subst c; rw [va_up_self]; simp
    · rw [va_up_ne _ _ c]; exact z
  · rcases zhd_mv h.1.1 hB.1 e1 e2 (i := i) (fun p c => by rw [e5, if_neg c]) _ p hp (Nat.le_refl _) with c | c
    · rw [← c]; exact hd
    · rw [e11, if_pos (by rw [← hd]; exact c.1)] at z; exact absurd rfl z
theorem zIv.take {t : Nat} {S : zS} {X : zX} (h : zIv t S X) (ht : t < 100) {i : Nat} (hi : i < mN X) (hx : ¬ X 5 i < 0) (q : Nat) : zIv (t + 1) (((S.kS (mH X i) ((S.K (mH X i)).erase i)).tA i none).lA (q, i, none, 0)) (m_moves (m_ends (zu X 0 0 0) i) i (-1)) := by
  have hn := h.1.1.1.2
  obtain ⟨Y, eY⟩ : ∃ Y, Y = m_moves (m_ends (zu X 0 0 0) i) i (-1) := ⟨_, rfl⟩
  rw [← eY]
  have hM : mM (m_ends (zu X 0 0 0) i) = mM X := by unfold m_ends; rw [mM_w _ _ _ _ (by decide), mM_w _ _ _ _ (by decide)]
  have e : ∀ k, k ≠ 0 → k ≠ 5 → k ≠ 11 → k ≠ 23 → k ≠ 24 → k ≠ 25 → Y k = X k := fun k a0 a5 a11 a23 a24 a25 => by rw [eY]; unfold m_ends m_moves; rw [zu_row_ne _ _ _ a23, zu_row_ne _ _ _ a25, zu_row_ne _ _ _ a24, zu_row_ne _ _ _ a5, zu_row_ne _ _ _ a11, zu_row_ne _ _ _ a0]
  have e5 : ∀ p, Y 5 p = if p = i then -1 else X 5 p := fun p => by rw [eY]; unfold m_ends m_moves; simp [zu]
  have e24 : ∀ p, Y 24 p = if p = mM X then nI i else X 24 p := fun p => by rw [eY]; unfold m_moves; rw [hM]; unfold m_ends; simp [zu]
  have e25 : ∀ p, Y 25 p = if p = mM X then -1 else X 25 p := fun p => by rw [eY]; unfold m_moves; rw [hM]; unfold m_ends; simp [zu]
  have e23 : Y 23 0 = nI (mM X + 1) := by rw [eY]; unfold m_moves; rw [hM]; unfold m_ends; simp [zu]
  have e11 : ∀ p, Y 11 p = if p = mHd X i then 0 else X 11 p := fun p => by rw [eY]; unfold m_ends m_moves; rw [mHd_w _ _ _ _ (by decide)]; simp [zu]
  have e1 : mN Y = mN X := by unfold mN; rw [e 1 (by omega) (by omega) (by omega) (by omega) (by omega) (by omega)]
  have e2 : Y 2 = X 2 := e 2 (by omega) (by omega) (by omega) (by omega) (by omega) (by omega)
  have hh := h.1.1.host hi hx
  have hB : zBt (((S.kS (mH X i) ((S.K (mH X i)).erase i)).tA i none).lA (q, i, none, 0)) Y := h.1.take hi hx (e 1 (by omega) (by omega) (by omega) (by omega) (by omega) (by omega)) e2 (funext (fun p => by rw [e5]; simp [zu])) rfl
  refine h.mvd e (fun p => by rw [e11]; split; exact Or.inr rfl; exact Or.inl rfl) hB (h.2.2.2.1.of2 e1 e2 (e 9 (by omega) (by omega) (by omega) (by omega) (by omega) (by omega)) (e 13 (by omega) (by omega) (by omega) (by omega) (by omega) (by omega)) (e 14 (by omega) (by omega) (by omega) (by omega) (by omega) (by omega)) (fun t _ z => ?_) (fun t htt y z => ?_) (fun t htt z p hp hd => ?_))
    (h.2.2.2.2.2.2.2.1.mv (i := i) (o := none) (to := -1) ht hn hi (by rw [hh.1]; exact nI_nm2 (by omega)) (fun q hq => by cases hq) (Or.inr ⟨by decide, rfl⟩) e1 e5 e23 e24 e25 rfl)
    (h.2.2.2.2.2.2.2.2.1.mv (q := q) (i := i) (o := none) hi (fun b hb => by cases hb) e1 e2 e5 (e 6 (by omega) (by omega) (by omega) (by omega) (by omega) (by omega)) rfl) rfl rfl
  · rw [e11] at z; split at z
    · exact absurd rfl z
    · exact z
  · show ¬ va_up S.K (mH X i) ((S.K (mH X i)).erase i) t = []
    by_cases c : t = mH X i
    · exfalso
      rw [e11] at y
      split at y
      · exact y rfl
      · next n =>
        have k1 := (h.2.2.2.1 t htt y).1
        have k2 := mHd_top (h.1.tr htt k1)
        exact n (by rw [mHd_host h.1.1 hi hx, ← c, k2])
    · rw [va_up_ne _ _ c]; exact z
  · rcases zhd_mv h.1.1 hB.1 e1 e2 (i := i) (fun p c => by rw [e5, if_neg c]) _ p hp (Nat.le_refl _) with c | c
    · rw [← c]; exact hd
    · exfalso
      have hi2 : mHd Y i = i := mHd_top (by rw [e5, if_pos rfl]; decide)
      have hti : t = i := by rw [← hd, c.1, hi2]
      rw [e11] at z
      split at z
      · exact z rfl
      · rw [hti] at z
        exact hx (h.1.tr hi (h.2.2.2.1 i hi z).1)
theorem zIv.scrap {t : Nat} {S : zS} {X : zX} (h : zIv t S X) (ht : t < 100) {i : Nat} (hi : i < mN X) (hx : X 5 i = -1) : zIv (t + 1) (S.tA i none) (m_moves (zu X 0 0 0) i (-2)) := by
  have hn := h.1.1.1.2
  obtain ⟨Y, eY⟩ : ∃ Y, Y = m_moves (zu X 0 0 0) i (-2) := ⟨_, rfl⟩
  rw [← eY]
  have e : ∀ k, k ≠ 0 → k ≠ 5 → k ≠ 23 → k ≠ 24 → k ≠ 25 → Y k = X k := fun k a0 a5 a23 a24 a25 => by rw [eY]; unfold m_moves; rw [zu_row_ne _ _ _ a23, zu_row_ne _ _ _ a25, zu_row_ne _ _ _ a24, zu_row_ne _ _ _ a5, zu_row_ne _ _ _ a0]
  have e5 : ∀ p, Y 5 p = if p = i then -2 else X 5 p := fun p => by rw [eY]; unfold m_moves; simp [zu]
  have e24 : ∀ p, Y 24 p = if p = mM X then nI i else X 24 p := fun p => by rw [eY]; unfold m_moves; rw [zmv_24]; simp [zu]
  have e25 : ∀ p, Y 25 p = if p = mM X then -2 else X 25 p := fun p => by rw [eY]; unfold m_moves; rw [zmv_24]; simp [zu]
  have e23 : Y 23 0 = nI (mM X + 1) := by rw [eY]; unfold m_moves; rw [zmv_24]; simp [zu]
  have e1 : mN Y = mN X := by unfold mN; rw [e 1 (by omega) (by omega) (by omega) (by omega) (by omega)]
  have e2 : Y 2 = X 2 := e 2 (by omega) (by omega) (by omega) (by omega) (by omega)
  have e11 : Y 11 = X 11 := e 11 (by omega) (by omega) (by omega) (by omega) (by omega)
  have hB : zBt (S.tA i none) Y := h.1.scrap hx (e 1 (by omega) (by omega) (by omega) (by omega) (by omega)) e2 (funext (fun p => by rw [e5]; simp [zu])) rfl
  refine h.mvd (fun k a b c d e' f => e k a b d e' f) (fun p => by rw [e11]; exact Or.inl rfl) hB (h.2.2.2.1.of2 e1 e2 (e 9 (by omega) (by omega) (by omega) (by omega) (by omega)) (e 13 (by omega) (by omega) (by omega) (by omega) (by omega)) (e 14 (by omega) (by omega) (by omega) (by omega) (by omega)) (fun t _ z => by rw [e11] at z; exact z) (fun t _ _ z => z) (fun t htt z p hp hd => ?_))
    (h.2.2.2.2.2.2.2.1.mv (i := i) (o := none) (to := -2) ht hn hi (by rw [hx]; decide) (fun q hq => by cases hq) (Or.inl ⟨rfl, rfl⟩) e1 e5 e23 e24 e25 rfl)
    ((h.2.2.2.2.2.2.2.2.1.sc hx e1 e2 e5 (e 6 (by omega) (by omega) (by omega) (by omega) (by omega)) rfl).up (Nat.le_succ t)) rfl rfl
  rcases zhd_mv h.1.1 hB.1 e1 e2 (i := i) (fun p c => by rw [e5, if_neg c]) _ p hp (Nat.le_refl _) with c | c
  · rw [← c]; exact hd
  · have hi2 : mHd Y i = i := mHd_top (by rw [e5, if_pos rfl]; decide)
    have hi3 : mHd X i = i := mHd_top (by rw [hx]; decide)
    rw [c.2, hi3, ← hi2, ← c.1]; exact hd
