/-! the invariant is kept: calls that write rows 7 to 11, 18, 19 -/
theorem zIv.soft {t : Nat} {S : zS} {X Y : zX} (h : zIv t S X) (e : ∀ k, k ≠ 0 → (k < 7 ∨ 11 < k) → k ≠ 18 → k ≠ 19 → Y k = X k) (hb : ∀ k, (k = 9 ∨ k = 10 ∨ k = 11) → ∀ p, Y k p = X k p ∨ Y k p = 0 ∨ (Y k p = 1 ∧ p < mN X)) (hx : ∀ k, (k = 7 ∨ k = 8 ∨ k = 18 ∨ k = 19) → ∀ p, mN X ≤ p → Y k p = X k p) (h8 : ∀ p, ¬ Y 8 p < 0) (l : zRl S Y) (f : zFw Y) (h19 : ∀ p, p < mN X → Y 19 p = X 19 p ∨ Y 19 p = X 6 p) : zIv (t + 1) S Y := by
  have e1 : mN Y = mN X := by unfold mN; rw [e 1 (by omega) (by omega) (by omega) (by omega)]
  refine h.rows (fun k hk => e k (by omega) (by omega) (by omega) (by omega)) (h.2.1.of (e 1 (by omega) (by omega) (by omega) (by omega)) (e 4 (by omega) (by omega) (by omega) (by omega)) (e 21 (by omega) (by omega) (by omega) (by omega)) (fun k hk p => ?_) (fun k hk p hp => ?_) h8)
    (h.2.2.1.cg (e 1 (by omega) (by omega) (by omega) (by omega)) (e 13 (by omega) (by omega) (by omega) (by omega)) (e 14 (by omega) (by omega) (by omega) (by omega))) l
    (h.2.2.2.2.1.cg (e 1 (by omega) (by omega) (by omega) (by omega)) (e 16 (by omega) (by omega) (by omega) (by omega)) (e 17 (by omega) (by omega) (by omega) (by omega))) f (fun p hp => ?_)
  · by_cases c : k = 12
    · subst c; exact Or.inl (by rw [e 12 (by omega) (by omega) (by omega) (by omega)])
    · exact hb k (by omega) p
  · by_cases c : k = 7 ∨ k = 8 ∨ k = 18 ∨ k = 19
    · exact hx k c p hp
    · rw [e k (by omega) (by omega) (by omega) (by omega)]
  · rw [e1] at hp
    obtain ⟨a, b, r, k1, k2, k3, k4, k5, k6⟩ := h.2.2.2.2.2.2.1 p hp
    have e6 : Y 6 p = X 6 p := by rw [e 6 (by omega) (by omega) (by omega) (by omega)]
    have e15 : Y 15 p = X 15 p := by rw [e 15 (by omega) (by omega) (by omega) (by omega)]
    rcases h19 p hp with c | c
    · exact ⟨a, b, r, e6.trans k1, c.trans k2, e15.trans k3, k4, by omega, by omega⟩
    · exact ⟨a, a, r, e6.trans k1, c.trans k1, e15.trans k3, Nat.le_refl a, by omega, by omega⟩
theorem zIv.examine {t : Nat} {S : zS} {X : zX} (h : zIv t S X) {i : Nat} (hi : i < mN X) : zIv (t + 1) S (zu (zu (zu X 0 0 0) 7 i 0) 8 i 0) := by
  have e : ∀ k, k ≠ 0 → k ≠ 7 → k ≠ 8 → (zu (zu (zu X 0 0 0) 7 i 0) 8 i 0) k = X k := fun k a b c => by rw [zu_row_ne _ _ _ c, zu_row_ne _ _ _ b, zu_row_ne _ _ _ a]
  refine h.soft (fun k a b c d => e k a (by omega) (by omega)) (fun k hk p => Or.inl (by rw [e k (by omega) (by omega) (by omega)])) (fun k hk p hp => ?_) (fun p => ?_) (h.2.2.2.1.cg (fun k hk => e k (by omega) (by omega) (by omega))) (h.2.2.2.2.2.1.cg (e 1 (by omega) (by omega) (by omega)) (e 9 (by omega) (by omega) (by omega)) (e 18 (by omega) (by omega) (by omega))) (fun p _ => Or.inl (by rw [e 19 (by omega) (by omega) (by omega)]))
  · rw [zu_n _ _ _ _ (fun z => by omega), zu_n _ _ _ _ (fun z => by omega), zu_n _ _ _ _ (fun z => by omega)]
  · by_cases c : p = i
    · subst c; rw [zu_s]; decide
    · rw [zu_n _ _ _ _ (fun z => c z.2), zu_n _ _ _ _ (fun z => by omega), zu_n _ _ _ _ (fun z => by omega)]; exact h.2.1.2.2.2.2 p
theorem zIv.waive {t : Nat} {S : zS} {X : zX} (h : zIv t S X) {i : Nat} (hi : i < mN X) {km : Int32} (hk : zin km 1 999 = true) : zIv (t + 1) S (zu (zu X 0 0 0) 8 i km) := by
  have e : ∀ k, k ≠ 0 → k ≠ 8 → (zu (zu X 0 0 0) 8 i km) k = X k := fun k a c => by rw [zu_row_ne _ _ _ c, zu_row_ne _ _ _ a]
  refine h.soft (fun k a b c d => e k a (by omega)) (fun k hk p => Or.inl (by rw [e k (by omega) (by omega)])) (fun k hk p hp => ?_) (fun p => ?_) (h.2.2.2.1.cg (fun k hk => e k (by omega) (by omega))) (h.2.2.2.2.2.1.cg (e 1 (by omega) (by omega)) (e 9 (by omega) (by omega)) (e 18 (by omega) (by omega))) (fun p _ => Or.inl (by rw [e 19 (by omega) (by omega)]))
  · rw [zu_n _ _ _ _ (fun z => by omega), zu_n _ _ _ _ (fun z => by omega)]
  · by_cases c : p = i
    · subst c; rw [zu_s]
      intro z
      have := Int32.lt_of_le_of_lt (zin_t hk).1 z
      exact absurd this (by decide)
    · rw [zu_n _ _ _ _ (fun z => c z.2), zu_n _ _ _ _ (fun z => by omega)]; exact h.2.1.2.2.2.2 p
theorem zIv.flaw {t : Nat} {S : zS} {X : zX} (h : zIv t S X) {i : Nat} (hi : i < mN X) {sz : Int32} (hz : zin sz 1 99 = true) : zIv (t + 1) S (zu (zu (zu X 0 0 0) 18 i sz) 19 i (X 6 i)) := by
  have e : ∀ k, k ≠ 0 → k ≠ 18 → k ≠ 19 → (zu (zu (zu X 0 0 0) 18 i sz) 19 i (X 6 i)) k = X k := fun k a b c => by rw [zu_row_ne _ _ _ c, zu_row_ne _ _ _ b, zu_row_ne _ _ _ a]
  have e1 : mN (zu (zu (zu X 0 0 0) 18 i sz) 19 i (X 6 i)) = mN X := by unfold mN; rw [e 1 (by omega) (by omega) (by omega)]
  refine h.soft (fun k a b c d => e k a c d) (fun k hk p => Or.inl (by rw [e k (by omega) (by omega) (by omega)])) (fun k hk p hp => ?_) (fun p => by rw [e 8 (by omega) (by omega) (by omega)]; exact h.2.1.2.2.2.2 p) (h.2.2.2.1.cg (fun k hk => e k (by omega) (by omega) (by omega))) (fun p hp => ?_) (fun p _ => ?_)
  · rw [zu_n _ _ _ _ (fun z => by omega), zu_n _ _ _ _ (fun z => by omega), zu_n _ _ _ _ (fun z => by omega)]
  · rw [e1] at hp
    rw [e 9 (by omega) (by omega) (by omega)]
    by_cases c : p = i
    · subst c
      obtain ⟨z1, z2⟩ := zin_t hz
      obtain ⟨j, hj, e2⟩ := nI_of2 (n := 99) rfl (Int32.not_lt.mpr (Int32.le_trans (by decide) z1)) z2
      refine ⟨j, ?_, by omega, fun _ => by omega⟩
      rw [zu_n _ _ _ _ (fun z => by omega), zu_s, e2]
    · obtain ⟨w, w1, w2, w3⟩ := h.2.2.2.2.2.1 p hp
      exact ⟨w, by rw [zu_n _ _ _ _ (fun z => c z.2), zu_n _ _ _ _ (fun z => c z.2), zu_n _ _ _ _ (fun z => by omega)]; exact w1, w2, w3⟩
  · by_cases c : p = i
    · subst c; right; rw [zu_s]
    · left; rw [zu_n _ _ _ _ (fun z => c z.2), zu_n _ _ _ _ (fun z => c z.2), zu_n _ _ _ _ (fun z => by omega)]
theorem zIv.holds {t : Nat} {S : zS} {X : zX} (h : zIv t S X) {i : Nat} (hi : i < mN X) : zIv (t + 1) S (m_holds (zu X 0 0 0) i) := by
  obtain ⟨Y, eY⟩ : ∃ Y, Y = m_holds (zu X 0 0 0) i := ⟨_, rfl⟩
  have eY2 : Y = zu (zu (zu X 0 0 0) 9 i 1) 11 (mHd X i) 0 := by rw [eY]; unfold m_holds m_ends; rw [mHd_w _ _ _ _ (by decide), mHd_w _ _ _ _ (by decide)]
  rw [← eY]
  have e : ∀ k, k ≠ 0 → k ≠ 9 → k ≠ 11 → Y k = X k := fun k a b c => by rw [eY2, zu_row_ne _ _ _ c, zu_row_ne _ _ _ b, zu_row_ne _ _ _ a]
  have e1 : mN Y = mN X := by unfold mN; rw [e 1 (by omega) (by omega) (by omega)]
  have e9 : ∀ p, Y 9 p = if p = i then 1 else X 9 p := fun p => by rw [eY2]; simp [zu]
  have e11 : ∀ p, Y 11 p = if p = mHd X i then 0 else X 11 p := fun p => by rw [eY2]; simp [zu]
  refine h.soft (fun k a b c d => e k a (by omega) (by omega)) (fun k hk p => ?_) (fun k hk p hp => by rw [e k (by omega) (by omega) (by omega)]) (fun p => by rw [e 8 (by omega) (by omega) (by omega)]; exact h.2.1.2.2.2.2 p)
    (h.2.2.2.1.of e1 (e 2 (by omega) (by omega) (by omega)) (e 5 (by omega) (by omega) (by omega)) (fun _ _ _ z => z) (fun t _ z => ?_) (fun t _ z p hp hd => ⟨fun q => ?_, fun _ q => q.cg (by rw [e 13 (by omega) (by omega) (by omega)]) (by rw [e 14 (by omega) (by omega) (by omega)])⟩)) (fun p hp => ?_) (fun p _ => Or.inl (by rw [e 19 (by omega) (by omega) (by omega)]))
  · by_cases c9 : k = 9
    · subst c9; rw [e9]; split
      · next c => exact Or.inr (Or.inr ⟨rfl, by omega⟩)
      · exact Or.inl rfl
    · by_cases c11 : k = 11
      · subst c11; rw [e11]; split
        · exact Or.inr (Or.inl rfl)
        · exact Or.inl rfl
      · exact Or.inl (by rw [e k (by omega) c9 c11])
  · rw [e11] at z
    split at z
    · exact absurd rfl z
    · exact z
  · rw [e11] at z
    rw [e9, if_neg (fun c => ?_)]
    · exact q
    · subst c; rw [if_pos hd.symm] at z; exact z rfl
  · rw [e1] at hp
    rw [e 18 (by omega) (by omega) (by omega), e9]
    obtain ⟨w, w1, w2, w3⟩ := h.2.2.2.2.2.1 p hp
    refine ⟨w, w1, w2, fun z => ?_⟩
    split at z
    · exact absurd z (by decide)
    · exact w3 z
theorem zIv.looked {t : Nat} {S : zS} {X : zX} (h : zIv t S X) {i : Nat} (hi : i < mN X) {v : Int32} (hv : v = 0 ∨ v = 1) : zIv (t + 1) S (zu (zu X 0 0 0) 10 i v) := by
  have e : ∀ k, k ≠ 0 → k ≠ 10 → (zu (zu X 0 0 0) 10 i v) k = X k := fun k a c => by rw [zu_row_ne _ _ _ c, zu_row_ne _ _ _ a]
  refine h.soft (fun k a b c d => e k a (by omega)) (fun k hk p => ?_) (fun k hk p hp => by rw [e k (by omega) (by omega)]) (fun p => by rw [e 8 (by omega) (by omega)]; exact h.2.1.2.2.2.2 p) (h.2.2.2.1.cg (fun k hk => e k (by omega) (by omega))) (h.2.2.2.2.2.1.cg (e 1 (by omega) (by omega)) (e 9 (by omega) (by omega)) (e 18 (by omega) (by omega))) (fun p _ => Or.inl (by rw [e 19 (by omega) (by omega)]))
  by_cases c : k = 10
  · subst c
    by_cases c : p = i
    · subst c; rw [zu_s]
      rcases hv with q | q
      · exact Or.inr (Or.inl q)
      · exact Or.inr (Or.inr ⟨q, hi⟩)
    · exact Or.inl (by rw [zu_n _ _ _ _ (fun z => c z.2), zu_n _ _ _ _ (fun z => by omega)])
  · exact Or.inl (by rw [e k (by omega) c])
theorem zIv.clear {t : Nat} {S : zS} {X : zX} (h : zIv t S X) {i : Nat} (hi : i < mN X) : zIv (t + 1) S (zu (zu (zu X 0 0 0) 9 i 0) 18 i 0) := by
  obtain ⟨Y, eY⟩ : ∃ Y, Y = zu (zu (zu X 0 0 0) 9 i 0) 18 i 0 := ⟨_, rfl⟩
  rw [← eY]
  have e : ∀ k, k ≠ 0 → k ≠ 9 → k ≠ 18 → Y k = X k := fun k a b c => by rw [eY, zu_row_ne _ _ _ c, zu_row_ne _ _ _ b, zu_row_ne _ _ _ a]
  have e1 : mN Y = mN X := by unfold mN; rw [e 1 (by omega) (by omega) (by omega)]
  have e9 : ∀ p, Y 9 p = if p = i then 0 else X 9 p := fun p => by rw [eY]; simp [zu]
  have e18 : ∀ p, Y 18 p = if p = i then 0 else X 18 p := fun p => by rw [eY]; simp [zu]
  refine h.soft (fun k a b c d => e k a (by omega) (by omega)) (fun k hk p => ?_) (fun k hk p hp => ?_) (fun p => by rw [e 8 (by omega) (by omega) (by omega)]; exact h.2.1.2.2.2.2 p)
    (h.2.2.2.1.of e1 (e 2 (by omega) (by omega) (by omega)) (e 5 (by omega) (by omega) (by omega)) (fun _ _ _ z => z) (fun t _ z => by rw [e 11 (by omega) (by omega) (by omega)] at z; exact z) (fun t _ z p hp hd => ⟨fun q => ?_, fun _ q => q.cg (by rw [e 13 (by omega) (by omega) (by omega)]) (by rw [e 14 (by omega) (by omega) (by omega)])⟩)) (fun p hp => ?_) (fun p _ => Or.inl (by rw [e 19 (by omega) (by omega) (by omega)]))
  · by_cases c9 : k = 9
    · subst c9; rw [e9]; split
      · exact Or.inr (Or.inl rfl)
      · exact Or.inl rfl
    · exact Or.inl (by rw [e k (by omega) c9 (by omega)])
  · by_cases c : k = 18
    · subst c; rw [e18, if_neg (by omega)]
    · rw [e k (by omega) (by omega) c]
  · rw [e9]; split
    · rfl
    · exact q
  · rw [e1] at hp
    rw [e18, e9]
    split
    · exact ⟨0, rfl, by omega, fun _ => by omega⟩
    · exact h.2.2.2.2.2.1 p hp
theorem zrc_10 (X : zX) (a : Int32) : ∀ j p, (zrc X a j).2 10 p = X 10 p ∨ ((zrc X a j).2 10 p = 1 ∧ p < j) := by
  intro j
  induction j with
  | zero => intro p; exact Or.inl rfl
  | succ j ih =>
    intro p
    have hi : (zrc X a j).2 10 p = X 10 p ∨ ((zrc X a j).2 10 p = 1 ∧ p < j + 1) := by
      rcases ih p with c | c
      · exact Or.inl c
      · exact Or.inr ⟨c.1, by omega⟩
    unfold zrc
    split
    · show m_ends (zu (zrc X a j).2 10 j 1) j 10 p = _ ∨ (m_ends (zu (zrc X a j).2 10 j 1) j 10 p = 1 ∧ _)
      unfold m_ends
      rw [zu_n _ _ _ _ (fun q => absurd q.1 (by decide))]
      by_cases c : p = j
      · subst c; rw [zu_s]; exact Or.inr ⟨rfl, by omega⟩
      · rw [zu_n _ _ _ _ (fun q => c q.2)]; exact hi
    · exact hi
theorem zrc_11 (X : zX) (a : Int32) : ∀ j p, (zrc X a j).2 11 p = X 11 p ∨ (zrc X a j).2 11 p = 0 := by
  intro j
  induction j with
  | zero => intro p; exact Or.inl rfl
  | succ j ih =>
    intro p
    unfold zrc
    split
    · show m_ends (zu (zrc X a j).2 10 j 1) j 11 p = _ ∨ m_ends (zu (zrc X a j).2 10 j 1) j 11 p = 0
      unfold m_ends
      by_cases c : p = mHd (zu (zrc X a j).2 10 j 1) j
      · rw [c, zu_s]; exact Or.inr rfl
      · rw [zu_n _ _ _ _ (fun q => c q.2), zu_n _ _ _ _ (fun q => absurd q.1 (by decide))]; exact ih p
    · exact ih p
theorem zIv.recall {t : Nat} {S : zS} {X : zX} (h : zIv t S X) (a : Int32) : zIv (t + 1) S (zrc (zu X 0 0 0) a (mN X)).2 := by
  have h10 := zrc_10 (zu X 0 0 0) a (mN X)
  have h11 := zrc_11 (zu X 0 0 0) a (mN X)
  have e : ∀ k, k ≠ 0 → k ≠ 10 → k ≠ 11 → (zrc (zu X 0 0 0) a (mN X)).2 k = X k := fun k b c d => by rw [zrc_cg _ a c d, zu_row_ne _ _ _ b]
  generalize (zrc (zu X 0 0 0) a (mN X)).2 = Y at *
  have e1 : mN Y = mN X := by unfold mN; rw [e 1 (by omega) (by omega) (by omega)]
  refine h.soft (fun k a b c d => e k a (by omega) (by omega)) (fun k hk p => ?_) (fun k hk p hp => by rw [e k (by omega) (by omega) (by omega)]) (fun p => by rw [e 8 (by omega) (by omega) (by omega)]; exact h.2.1.2.2.2.2 p)
    (h.2.2.2.1.of e1 (e 2 (by omega) (by omega) (by omega)) (e 5 (by omega) (by omega) (by omega)) (fun _ _ _ z => z) (fun t _ z => ?_) (fun t _ z p hp hd => ⟨fun q => by rw [e 9 (by omega) (by omega) (by omega)]; exact q, fun _ q => q.cg (by rw [e 13 (by omega) (by omega) (by omega)]) (by rw [e 14 (by omega) (by omega) (by omega)])⟩)) (h.2.2.2.2.2.1.cg (e 1 (by omega) (by omega) (by omega)) (e 9 (by omega) (by omega) (by omega)) (e 18 (by omega) (by omega) (by omega))) (fun p _ => Or.inl (by rw [e 19 (by omega) (by omega) (by omega)]))
  · by_cases c : k = 10
    · subst c
      rcases h10 p with c | c
      · exact Or.inl c
      · exact Or.inr (Or.inr c)
    · by_cases c : k = 11
      · subst c
        rcases h11 p with c | c
        · exact Or.inl c
        · exact Or.inr (Or.inl c)
      · exact Or.inl (by rw [e k (by omega) (by omega) (by omega)])
  · rcases h11 t with c | c
    · rw [c] at z; exact z
    · exact absurd c z
theorem zbo_100 (X : zX) (hn : mN X ≤ 60) (t : Nat) : ∀ k r, 1 ≤ r → r + k = 8 → zbo X t k r / 100 = 0 → zbo X t k r = 0 := by
  intro k
  induction k with
  | zero => intro r _ _ _; rfl
  | succ k ih =>
    intro r h1 h8
    have e : zbo X t (k + 1) r = match zfi (fun p => mIi X p t && mBb X p r) (mN X) 0 with | some p => nI (100 * r + p) | none => zbo X t k (r + 1) := rfl
    cases hf : zfi (fun p => mIi X p t && mBb X p r) (mN X) 0 with
    | some q =>
      rw [e, hf]
      have := (zfi_lt _ _ _ hf).1
      intro z
      exfalso
      have z2 : nI (100 * r + q) / nI 100 = 0 := z
      rw [pk_div (by omega) (by decide) (by decide)] at z2
      have h3 : (100 * r + q) / 100 = r := by omega
      rw [h3] at z2
      exact nI_ne0 (n := r) (by omega) (by omega) z2
    | none => rw [e, hf]; exact ih (r + 1) (by omega) (by omega)
theorem zIv.release {t : Nat} {S : zS} {X : zX} (h : zIv t S X) {i : Nat} (hi : i < mN X) (h2 : X 2 i = 0) : zIv (t + 1) S (zu (zu X 0 0 0) 11 i (if mBo X i / 100 = 0 then 1 else 0)) := by
  obtain ⟨v, ev⟩ : ∃ v, v = (if mBo X i / 100 = 0 then (1 : Int32) else 0) := ⟨_, rfl⟩
  rw [← ev]
  have e : ∀ k, k ≠ 0 → k ≠ 11 → (zu (zu X 0 0 0) 11 i v) k = X k := fun k a c => by rw [zu_row_ne _ _ _ c, zu_row_ne _ _ _ a]
  have e1 : mN (zu (zu X 0 0 0) 11 i v) = mN X := by unfold mN; rw [e 1 (by omega) (by omega)]
  have hv : v = 0 ∨ (v = 1 ∧ mBo X i = 0) := by
    rw [ev]; split
    · next c => exact Or.inr ⟨rfl, zbo_100 X h.1.1.1.2 i 7 1 (by omega) (by omega) c⟩
    · exact Or.inl rfl
  refine h.soft (fun k a b c d => e k a (by omega)) (fun k hk p => ?_) (fun k hk p hp => by rw [e k (by omega) (by omega)]) (fun p => by rw [e 8 (by omega) (by omega)]; exact h.2.1.2.2.2.2 p) ?_ (h.2.2.2.2.2.1.cg (e 1 (by omega) (by omega)) (e 9 (by omega) (by omega)) (e 18 (by omega) (by omega))) (fun p _ => Or.inl (by rw [e 19 (by omega) (by omega)]))
  · by_cases c : k = 11
    · subst c
      by_cases c : p = i
      · subst c; rw [zu_s]
        rcases hv with q | q
        · exact Or.inr (Or.inl q)
        · exact Or.inr (Or.inr ⟨q.1, hi⟩)
      · exact Or.inl (by rw [zu_n _ _ _ _ (fun z => c z.2), zu_n _ _ _ _ (fun z => by omega)])
    · exact Or.inl (by rw [e k (by omega) c])
  · intro t ht hy
    rw [e1] at ht
    have key : X 2 t = 0 ∧ ¬ S.K t = [] ∧ ∀ p, p < mN X → mHd X p = t → X 9 p = 0 ∧ (X 2 p = 3 → zGd X p) := by
      by_cases c : t = i
      · subst c
        rw [zu_s] at hy
        rcases hv with q | q
        · exact absurd q hy
        · exact ⟨h2, zrel_ok h.1 h.2.2.1 hi h2 q.2⟩
      · rw [zu_n _ _ _ _ (fun z => c z.2), zu_n _ _ _ _ (fun z => by omega)] at hy
        exact h.2.2.2.1 t ht hy
    refine ⟨by rw [e 2 (by omega) (by omega)]; exact key.1, key.2.1, fun p hp hd => ?_⟩
    rw [e1] at hp
    rw [mHd_cg (e 5 (by omega) (by omega))] at hd
    obtain ⟨j1, j2⟩ := key.2.2 p hp hd
    refine ⟨by rw [e 9 (by omega) (by omega)]; exact j1, fun h3 => ?_⟩
    rw [e 2 (by omega) (by omega)] at h3
    exact (j2 h3).cg (by rw [e 13 (by omega) (by omega)]) (by rw [e 14 (by omega) (by omega)])
