/-! run keeps the invariant -/
theorem zfi_no : ∀ (f : Nat → Bool) n j, zfi f n j = none → ∀ q, j ≤ q → q < j + n → f q = false := by
  intro f n
  induction n with
  | zero => intro j _ q h1 h2; omega
  | succ n ihn =>
    intro j hj q h1 h2
    have ej : zfi f (n + 1) j = if f j = true then some j else zfi f n (j + 1) := rfl
    rw [ej] at hj
    by_cases fj : f j = true
    · rw [if_pos fj] at hj; cases hj
    · rw [if_neg fj] at hj
      by_cases y : q = j
      · rw [y]; exact Bool.eq_false_iff.mpr fj
      · exact ihn (j + 1) hj q (by omega) (by omega)
theorem nI_inj31 {a b : Nat} (ha : a < 2 ^ 31) (hb : b < 2 ^ 31) (e : nI a = nI b) : a = b := by
  have h := congrArg Int32.toNatClampNeg e
  rw [nI_clamp ha, nI_clamp hb] at h
  exact h
theorem zIv.run {t : Nat} {S : zS} {X : zX} (h : zIv t S X) (ht : t ≤ 99) {i : Nat} (hi : i < mN X) (h2 : X 2 i = 0) (h11 : ¬ X 11 i = 0) {km se : Int32} (hkm : zin km 1 2000 = true) (hse : zin se 0 3 = true) (q : Nat) :
    zIv (t + 1) (S.lA (q, i, none, km)) (if (mRn i km se (mN X) (zu (zu X 0 0 0) 11 i 0, -1)).2 = -1 then (mRn i km se (mN X) (zu (zu X 0 0 0) 11 i 0, -1)).1 else mHl (mRn i km se (mN X) (zu (zu X 0 0 0) 11 i 0, -1)).1 i (mN X)) := by
  have hn := h.1.1.1.2
  obtain ⟨x0, ex⟩ : ∃ x0, x0 = zu (zu X 0 0 0) 11 i 0 := ⟨_, rfl⟩
  rw [← ex]
  have k0 : ∀ k, k ≠ 0 → k ≠ 11 → x0 k = X k := fun k a b => by rw [ex, zu_row_ne _ _ _ b, zu_row_ne _ _ _ a]
  have k11 : ∀ p, x0 11 p = if p = i then 0 else X 11 p := fun p => by rw [ex]; simp [zu]
  have h5 : X 5 i < 0 := h.1.tr hi h2
  have hin : ∀ p, mIi x0 p i = true ↔ mHd X p = i := fun p => by
    rw [mIi_cg (k0 5 (by decide) (by decide))]; exact mIi_hd h5
  obtain ⟨k, hk2, rfl⟩ := nI_of2 (n := 2000) (x := km) rfl (Int32.not_lt.mpr (Int32.le_trans (by decide) (zin_t hkm).1)) (zin_t hkm).2
  have hk1 : 1 ≤ k := by
    have := (zin_t hkm).1
    exact (nI_leI (a := 1) (b := k) (by omega) (by omega)).mp this
  obtain ⟨s, es⟩ : ∃ s, s = mRn i (nI k) se (mN X) (x0, -1) := ⟨_, rfl⟩
  rw [← es]
  have sc : ∀ r p, p < mN X → s.1 r p = if mHd X p = i then m_goes x0 p (nI k) se r p else x0 r p := fun r p hp => by
    rw [es, mRn_col i (nI k) se r (mN X) (x0, -1) hp]
    by_cases c : mHd X p = i
    · rw [if_pos c, if_pos ((hin p).mpr c)]
    · rw [if_neg c, if_neg (fun z => c ((hin p).mp z))]
  have sh : ∀ r p, mN X ≤ p → s.1 r p = x0 r p := fun r p hp => by rw [es]; exact mRn_hi i (nI k) se r (mN X) (x0, -1) hp
  have sb := mRn_br i (nI k) se (mN X) (x0, -1)
  rw [← es] at sb
  have s5 : s.1 5 = X 5 := by rw [es, mRn_5]; exact k0 5 (by decide) (by decide)
  -- the parts of the train
  have goes : ∀ p, p < mN X → mHd X p = i → ∃ a b r, X 6 p = nI a ∧ X 19 p = nI b ∧ X 15 p = nI r ∧ b ≤ a ∧ a ≤ 2000 * t ∧ r ≤ 6000 * t ∧ m_goes x0 p (nI k) se 6 p = nI (a + k) ∧ m_goes x0 p (nI k) se 19 p = nI b ∧ (∃ r', m_goes x0 p (nI k) se 15 p = nI r' ∧ r' ≤ r + 6000) ∧ (∃ w', m_goes x0 p (nI k) se 18 p = nI w' ∧ w' ≤ 200) ∧ ∃ f' d', m_goes x0 p (nI k) se 14 p = nI f' ∧ m_goes x0 p (nI k) se 13 p = nI d' ∧ 200 ≤ f' ∧ f' ≤ 300 ∧ d' ≤ 9000 ∧ 8300 + 2 * (300 - f') ≤ d' := fun p hp hd => by
    obtain ⟨a, b, r, a1, a2, a3, a4, a5, a6⟩ := h.2.2.2.2.2.2.1 p hp
    obtain ⟨w, w1, w2, w3⟩ := h.2.2.2.2.2.1 p hp
    obtain ⟨f, d, f1, f2, f3, f4, f5, f6⟩ := h.2.2.1 p hp
    obtain ⟨-, -, z3⟩ := h.2.2.2.1 i hi h11
    obtain ⟨z4, z5⟩ := z3 p hp hd
    have e : ∀ j, j ≠ 0 → j ≠ 11 → x0 j p = X j p := fun j a b => congrFun (k0 j a b) p
    exact ⟨a, b, r, a1, a2, a3, a4, a5, a6, m_goes_n (X := x0) ((e 6 (by omega) (by omega)).trans a1) ((e 19 (by omega) (by omega)).trans a2) ((e 15 (by omega) (by omega)).trans a3) a4 (by omega) (by omega) ((e 18 (by omega) (by omega)).trans w1) (w3 z4) ((e 14 (by omega) (by omega)).trans f1) ((e 13 (by omega) (by omega)).trans f2) f4 f5 hk1 hk2 hse (fun h3 => by
      rw [e 2 (by omega) (by omega)] at h3
      obtain ⟨f', d', g1, g2, g3, g4, g5, g6⟩ := z5 h3
      have q1 : f = f' := nI_inj31 (by omega) (by omega) (f1.symm.trans g1)
      have q2 : d = d' := nI_inj31 (by omega) (by omega) (f2.symm.trans g2)
      omega) ⟨f3, f6⟩⟩
  obtain ⟨Y, eY⟩ : ∃ Y, Y = (if s.2 = -1 then s.1 else mHl s.1 i (mN X)) := ⟨_, rfl⟩
  rw [← eY]
  have e9 : ∀ r, r ≠ 9 → Y r = s.1 r := fun r hr => by
    rw [eY]; split
    · rfl
    · exact mHl_cg _ _ hr _
  -- rows that a run leaves
  have ek : ∀ r, r ≠ 0 → r ≠ 6 → r ≠ 7 → r ≠ 9 → r ≠ 11 → r ≠ 13 → r ≠ 14 → r ≠ 15 → r ≠ 18 → Y r = X r := fun r a0 a6 a7 a9 a11 a13 a14 a15 a18 => by
    rw [e9 r a9]
    funext p
    by_cases c : p < mN X
    · rw [sc r p c]
      split
      · rw [m_goes_cg x0 p (nI k) se a6 a7 a13 a14 a15 a18, k0 r a0 a11]
      · rw [k0 r a0 a11]
    · rw [sh r p (by omega), k0 r a0 a11]
  have yc : ∀ r p, r ≠ 9 → p < mN X → Y r p = if mHd X p = i then m_goes x0 p (nI k) se r p else x0 r p := fun r p hr hp => by rw [e9 r hr]; exact sc r p hp
  have yh : ∀ r p, r ≠ 9 → mN X ≤ p → Y r p = x0 r p := fun r p hr hp => by rw [e9 r hr]; exact sh r p hp
  have y11 : ∀ p, Y 11 p = if p = i then 0 else X 11 p := fun p => by
    rw [← k11]
    by_cases c : p < mN X
    · rw [yc 11 p (by decide) c]
      split
      · rw [m_goes_cg x0 p (nI k) se (by decide) (by decide) (by decide) (by decide) (by decide) (by decide)]
      · rfl
    · exact yh 11 p (by decide) (by omega)
  have s9 : s.1 9 = X 9 := by
    funext p
    by_cases c : p < mN X
    · rw [sc 9 p c]
      split
      · rw [m_goes_cg x0 p (nI k) se (by decide) (by decide) (by decide) (by decide) (by decide) (by decide), k0 9 (by decide) (by decide)]
      · rw [k0 9 (by decide) (by decide)]
    · rw [sh 9 p (by omega), k0 9 (by decide) (by decide)]
  have hin2 : ∀ p, mIi s.1 p i = true ↔ mHd X p = i := fun p => by rw [mIi_cg s5]; exact mIi_hd h5
  have y9 : ∀ p, Y 9 p = X 9 p ∨ (Y 9 p = 1 ∧ p < mN X ∧ ¬ s.2 = -1 ∧ mHd X p = i) := fun p => by
    rw [eY]
    by_cases c : s.2 = -1
    · rw [if_pos c]; left; rw [s9]
    · rw [if_neg c]
      by_cases c2 : p < mN X
      · rw [mHl_col _ _ _ _ c2, s9]
        by_cases c3 : mHd X p = i
        · right; rw [if_pos (Or.inr ((hin2 p).mpr c3))]; exact ⟨rfl, c2, c, c3⟩
        · left
          rcases (h.2.1.1 p).1 with z | z
          · rw [if_neg (fun y => y.elim (fun y => y z) (fun y => c3 ((hin2 p).mp y))), z]
          · rw [if_pos (Or.inl (by rw [z]; decide)), z]
      · left; rw [mHl_9 _ _ _ _ (by omega), s9]
  have y9t : ∀ p, p < mN X → mHd X p = i → ¬ s.2 = -1 → Y 9 p = 1 := fun p hp hd hs => by
    rw [eY, if_neg hs, mHl_col _ _ _ _ hp, if_pos (Or.inr ((hin2 p).mpr hd))]
  have e1 : mN Y = mN X := by unfold mN; rw [ek 1 (by decide) (by decide) (by decide) (by decide) (by decide) (by decide) (by decide) (by decide) (by decide)]
  have E : ∀ r, (r = 1 ∨ r = 2 ∨ r = 3 ∨ r = 4 ∨ r = 5 ∨ r = 8 ∨ r = 10 ∨ r = 12 ∨ r = 16 ∨ r = 17 ∨ 19 ≤ r) → Y r = X r := fun r hr => ek r (by omega) (by omega) (by omega) (by omega) (by omega) (by omega) (by omega) (by omega) (by omega)
  obtain ⟨i1, i2, i3, i4, i5, i6, i7, i8, i9, i10⟩ := h
  refine ⟨i1.cg (E 1 (by omega)) (E 2 (by omega)) (E 5 (by omega)) rfl, i2.of (E 1 (by omega)) (E 4 (by omega)) (E 21 (by omega)) (fun r hr p => ?_) (fun r hr p hp => ?_) (fun p => by rw [E 8 (by omega)]; exact i2.2.2.2.2 p), fun p hp => ?_, ?_,
    i5.cg (E 1 (by omega)) (E 16 (by omega)) (E 17 (by omega)), fun p hp => ?_, fun p hp => ?_, (i8.up (Nat.le_succ t)).cg e1 (E 5 (by omega)) (E 23 (by omega)) (E 24 (by omega)) (E 25 (by omega)) rfl,
    i9.run i1.1 (q := q) (n := i) (km := nI k) hi (nI_ne0 (by omega) (by omega)) e1 (E 2 (by omega)) (E 5 (by omega)) (fun p hp => ?_) rfl,
    i10.cg (by omega) (fun p _ => by rw [E 12 (by omega)]) (E 26 (by omega)) (E 27 (by omega)) (E 28 (by omega)) (E 31 (by omega)) (E 32 (by omega)) rfl rfl⟩
  · by_cases c9 : r = 9
    · subst c9
      rcases y9 p with z | z
      · exact Or.inl z
      · exact Or.inr (Or.inr ⟨z.1, z.2.1⟩)
    · by_cases c11 : r = 11
      · subst c11
        rw [y11]; split
        · exact Or.inr (Or.inl rfl)
        · exact Or.inl rfl
      · exact Or.inl (by rw [E r (by omega)])
  · rw [yh r p (by omega) hp, k0 r (by omega) (by omega)]
  · rw [e1] at hp
    rw [yc 14 p (by decide) hp, yc 13 p (by decide) hp]
    by_cases c : mHd X p = i
    · rw [if_pos c, if_pos c]
      obtain ⟨a, b, r, -, -, -, -, -, -, -, -, -, -, g⟩ := goes p hp c
      exact g
    · rw [if_neg c, if_neg c, k0 14 (by decide) (by decide), k0 13 (by decide) (by decide)]
      exact i3 p hp
  · refine i4.of e1 (E 2 (by omega)) (E 5 (by omega)) (fun _ _ _ z => z) (fun t _ z => ?_) (fun t _ z p hp hd => ?_)
    · rw [y11] at z; split at z
      · exact absurd rfl z
      · exact z
    · have hti : ¬ mHd X p = i := fun c => by
        rw [y11, if_pos (by rw [← hd]; exact c)] at z; exact z rfl
      refine ⟨fun q => ?_, fun _ q => q.cg ?_ ?_⟩
      · rcases y9 p with z | z
        · rw [z]; exact q
        · exact absurd z.2.2.2 hti
      · rw [yc 13 p (by decide) hp, if_neg hti, k0 13 (by decide) (by decide)]
      · rw [yc 14 p (by decide) hp, if_neg hti, k0 14 (by decide) (by decide)]
  · rw [e1] at hp
    rw [yc 18 p (by decide) hp]
    by_cases c : mHd X p = i
    · rw [if_pos c]
      obtain ⟨a, b, r, -, -, -, -, -, -, -, -, -, ⟨w', g1, g2⟩, -⟩ := goes p hp c
      refine ⟨w', g1, g2, fun z => ?_⟩
      by_cases hs : s.2 = -1
      · have hno : zfi (fun p => mIi x0 p i && decide (¬ m_goes x0 p (nI k) se 18 p < 100)) (mN X) 0 = none := by
          cases hf : zfi (fun p => mIi x0 p i && decide (¬ m_goes x0 p (nI k) se 18 p < 100)) (mN X) 0 with
          | none => rfl
          | some b =>
            have hb := (zfi_lt _ _ _ hf).1
            have sb2 : s.2 = match zfi (fun p => mIi x0 p i && decide (¬ m_goes x0 p (nI k) se 18 p < 100)) (mN X) 0 with | some b => nI b | none => -1 := sb
            rw [hf] at sb2
            rw [hs] at sb2
            exact absurd sb2.symm (nI_nm1 (by omega))
        have := zfi_no _ _ _ hno p (Nat.zero_le _) (by omega)
        rw [(hin p).mpr c, Bool.true_and] at this
        have h3 := Classical.not_not.mp (of_decide_eq_false this)
        rw [g1] at h3
        have := (nI_ltI (a := w') (b := 100) (by omega) (by omega)).mp h3
        omega
      · rw [y9t p hp c hs] at z; exact absurd z (by decide)
    · rw [if_neg c, k0 18 (by decide) (by decide)]
      obtain ⟨w, w1, w2, w3⟩ := i6 p hp
      refine ⟨w, w1, w2, fun z => w3 ?_⟩
      rcases y9 p with y | y
      · rw [← y]; exact z
      · exact absurd y.2.2.2 c
  · rw [e1] at hp
    rw [yc 6 p (by decide) hp, yc 19 p (by decide) hp, yc 15 p (by decide) hp]
    by_cases c : mHd X p = i
    · rw [if_pos c, if_pos c, if_pos c]
      obtain ⟨a, b, r, a1, a2, a3, a4, a5, a6, g1, g2, ⟨r', g3, g4⟩, -⟩ := goes p hp c
      exact ⟨a + k, b, r', g1, g2, g3, by omega, by omega, by omega⟩
    · rw [if_neg c, if_neg c, if_neg c, k0 6 (by decide) (by decide), k0 19 (by decide) (by decide), k0 15 (by decide) (by decide)]
      obtain ⟨a, b, r, a1, a2, a3, a4, a5, a6⟩ := i7 p hp
      exact ⟨a, b, r, a1, a2, a3, a4, by omega, by omega⟩
  · rw [yc 6 p (by decide) hp]
    by_cases c : mHd X p = i
    · rw [if_pos c, if_pos c]
      obtain ⟨a, b, r, a1, a2, a3, a4, a5, a6, g1, -⟩ := goes p hp c
      rw [g1, a1, nI_add]
    · rw [if_neg c, if_neg c, k0 6 (by decide) (by decide)]
