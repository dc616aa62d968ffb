/-! the invariant is kept: the calls that write a part's rows -/
theorem zIv.rows {t : Nat} {S : zS} {X Y : zX} (h : zIv t S X) (e : ∀ k, (k = 1 ∨ k = 2 ∨ k = 5 ∨ k = 6 ∨ k = 12 ∨ 23 ≤ k) → Y k = X k) (r : zRw Y) (w : zWh Y) (l : zRl S Y) (g : zGt Y) (f : zFw Y) (v : zLv (t + 1) Y) : zIv (t + 1) S Y := by
  obtain ⟨i1, i2, i3, i4, i5, i6, i7, i8, i9, i10⟩ := h
  have e1 : mN Y = mN X := by unfold mN; rw [e 1 (by omega)]
  exact ⟨i1.cg (e 1 (by omega)) (e 2 (by omega)) (e 5 (by omega)) rfl, r, w, l, g, f, v, (i8.up (Nat.le_succ t)).cg e1 (e 5 (by omega)) (e 23 (by omega)) (e 24 (by omega)) (e 25 (by omega)) rfl, (i9.up (Nat.le_succ t)).cg e1 (e 2 (by omega)) (e 5 (by omega)) (e 6 (by omega)) rfl,
    i10.cg (by omega) (fun p _ => by rw [e 12 (by omega)]) (e 26 (by omega)) (e 27 (by omega)) (e 28 (by omega)) (e 31 (by omega)) (e 32 (by omega)) rfl rfl⟩
/-- released trains when rows 9, 11, 13, 14 stay -/
theorem zRl.cg {S : zS} {X Y : zX} (h : zRl S X) (e : ∀ k, (k = 1 ∨ k = 2 ∨ k = 5 ∨ k = 9 ∨ k = 11 ∨ k = 13 ∨ k = 14) → Y k = X k) : zRl S Y :=
  h.of (by unfold mN; rw [e 1 (by omega)]) (e 2 (by omega)) (e 5 (by omega)) (fun _ _ _ z => z) (fun t _ z => by rw [e 11 (by omega)] at z; exact z) (fun t _ _ p _ _ => ⟨fun z => by rw [e 9 (by omega)]; exact z, fun _ z => z.cg (by rw [e 13 (by omega)]) (by rw [e 14 (by omega)])⟩)
theorem zIv.limits {t : Nat} {S : zS} {X : zX} (h : zIv t S X) (k : Nat) (a b d : Int32) (hb : ¬ b < 0) : zIv (t + 1) S (zu (zu (zu (zu X 0 0 0) 20 k a) 21 k b) 22 k d) := by
  obtain ⟨Y, eY⟩ : ∃ Y, Y = zu (zu (zu (zu X 0 0 0) 20 k a) 21 k b) 22 k d := ⟨_, rfl⟩
  rw [← eY]
  have e : ∀ j, j ≠ 0 → j ≠ 20 → j ≠ 21 → j ≠ 22 → Y j = X j := fun j a b c d => by rw [eY, zu_row_ne _ _ _ d, zu_row_ne _ _ _ c, zu_row_ne _ _ _ b, zu_row_ne _ _ _ a]
  have e21 : ∀ j, Y 21 j = if j = k then b else X 21 j := fun j => by rw [eY]; simp [zu]
  have e1 : mN Y = mN X := by unfold mN; rw [e 1 (by decide) (by decide) (by decide) (by decide)]
  obtain ⟨r1, r2, r3, r4, r5⟩ := h.2.1
  refine h.rows (fun j hj => e j (by omega) (by omega) (by omega) (by omega)) ⟨?_, ?_, ?_, fun j => ?_, ?_⟩ (h.2.2.1.cg (e 1 (by decide) (by decide) (by decide) (by decide)) (e 13 (by decide) (by decide) (by decide) (by decide)) (e 14 (by decide) (by decide) (by decide) (by decide))) (h.2.2.2.1.cg (fun j hj => e j (by omega) (by omega) (by omega) (by omega)))
    (h.2.2.2.2.1.cg (e 1 (by decide) (by decide) (by decide) (by decide)) (e 16 (by decide) (by decide) (by decide) (by decide)) (e 17 (by decide) (by decide) (by decide) (by decide))) (h.2.2.2.2.2.1.cg (e 1 (by decide) (by decide) (by decide) (by decide)) (e 9 (by decide) (by decide) (by decide) (by decide)) (e 18 (by decide) (by decide) (by decide) (by decide))) (h.2.2.2.2.2.2.1.cg (Nat.le_succ t) (e 1 (by decide) (by decide) (by decide) (by decide)) (e 6 (by decide) (by decide) (by decide) (by decide)) (e 15 (by decide) (by decide) (by decide) (by decide)) (e 19 (by decide) (by decide) (by decide) (by decide)))
  · rw [e 9 (by decide) (by decide) (by decide) (by decide), e 10 (by decide) (by decide) (by decide) (by decide), e 11 (by decide) (by decide) (by decide) (by decide), e 12 (by decide) (by decide) (by decide) (by decide)]; exact r1
  · rw [e1, e 6 (by decide) (by decide) (by decide) (by decide), e 7 (by decide) (by decide) (by decide) (by decide), e 8 (by decide) (by decide) (by decide) (by decide), e 9 (by decide) (by decide) (by decide) (by decide), e 10 (by decide) (by decide) (by decide) (by decide), e 11 (by decide) (by decide) (by decide) (by decide), e 12 (by decide) (by decide) (by decide) (by decide), e 15 (by decide) (by decide) (by decide) (by decide), e 16 (by decide) (by decide) (by decide) (by decide), e 17 (by decide) (by decide) (by decide) (by decide), e 18 (by decide) (by decide) (by decide) (by decide), e 19 (by decide) (by decide) (by decide) (by decide)]; exact r2
  · unfold zMd; rw [e1, e 4 (by decide) (by decide) (by decide) (by decide)]; exact r3
  · rw [e21]; split
    · exact hb
    · exact r4 j
  · rw [e 8 (by decide) (by decide) (by decide) (by decide)]; exact r5
/-- rows 9-12, the zeros and the rest of zRw, when single cells of parts change -/
theorem zRw.of {X Y : zX} (h : zRw X) (h1 : Y 1 = X 1) (h4 : Y 4 = X 4) (h21 : Y 21 = X 21) (hz : ∀ k, (k = 9 ∨ k = 10 ∨ k = 11 ∨ k = 12) → ∀ p, Y k p = X k p ∨ Y k p = 0 ∨ (Y k p = 1 ∧ p < mN X)) (hx : ∀ k, (k = 6 ∨ k = 7 ∨ k = 8 ∨ k = 15 ∨ k = 16 ∨ k = 17 ∨ k = 18 ∨ k = 19) → ∀ p, mN X ≤ p → Y k p = X k p) (h8 : ∀ p, ¬ Y 8 p < 0) : zRw Y := by
  have e1 : mN Y = mN X := by unfold mN; rw [h1]
  obtain ⟨r1, r2, r3, r4, r5⟩ := h
  have hb : ∀ k, (k = 9 ∨ k = 10 ∨ k = 11 ∨ k = 12) → ∀ p, (X k p = 0 ∨ X k p = 1) → (Y k p = 0 ∨ Y k p = 1) := fun k hk p hp => by
    rcases hz k hk p with e | e | e
    · rw [e]; exact hp
    · exact Or.inl e
    · exact Or.inr e.1
  have h0 : ∀ k, (k = 9 ∨ k = 10 ∨ k = 11 ∨ k = 12) → ∀ p, mN X ≤ p → X k p = 0 → Y k p = 0 := fun k hk p hp h => by
    rcases hz k hk p with e | e | e
    · rw [e]; exact h
    · exact e
    · omega
  refine ⟨fun p => ?_, fun p hp => ?_, ?_, by rw [h21]; exact r4, h8⟩
  · obtain ⟨a, b, c, d⟩ := r1 p
    exact ⟨hb 9 (by omega) p a, hb 10 (by omega) p b, hb 11 (by omega) p c, hb 12 (by omega) p d⟩
  · rw [e1] at hp
    obtain ⟨a6, a7, a8, a9, a10, a11, a12, a15, a16, a17, a18, a19⟩ := r2 p hp
    exact ⟨(hx 6 (by omega) p hp).trans a6, (hx 7 (by omega) p hp).trans a7, (hx 8 (by omega) p hp).trans a8, h0 9 (by omega) p hp a9, h0 10 (by omega) p hp a10, h0 11 (by omega) p hp a11, h0 12 (by omega) p hp a12, (hx 15 (by omega) p hp).trans a15, (hx 16 (by omega) p hp).trans a16, (hx 17 (by omega) p hp).trans a17, (hx 18 (by omega) p hp).trans a18, (hx 19 (by omega) p hp).trans a19⟩
  · unfold zMd; rw [e1, h4]; exact r3
theorem zIv.gate {t : Nat} {S : zS} {X : zX} (h : zIv t S X) {i : Nat} (hi : i < mN X) {er : Int32} (he : zin er (-5) 5 = true) : zIv (t + 1) S (zu (zu (zu X 0 0 0) 16 i (X 14 i + er)) 17 i 1) := by
  obtain ⟨Y, eY⟩ : ∃ Y, Y = zu (zu (zu X 0 0 0) 16 i (X 14 i + er)) 17 i 1 := ⟨_, rfl⟩
  rw [← eY]
  have e : ∀ j, j ≠ 0 → j ≠ 16 → j ≠ 17 → Y j = X j := fun j a b c => by rw [eY, zu_row_ne _ _ _ c, zu_row_ne _ _ _ b, zu_row_ne _ _ _ a]
  have ep : ∀ j p, j ≠ 0 → p ≠ i → Y j p = X j p := fun j p a b => by rw [eY, zu_n _ _ _ _ (fun z => b z.2), zu_n _ _ _ _ (fun z => b z.2), zu_row_ne _ _ _ a]
  have e1 : mN Y = mN X := by unfold mN; rw [e 1 (by decide) (by decide) (by decide)]
  refine h.rows (fun j hj => e j (by omega) (by omega) (by omega)) (h.2.1.of (e 1 (by decide) (by decide) (by decide)) (e 4 (by decide) (by decide) (by decide)) (e 21 (by decide) (by decide) (by decide)) (fun k hk p => Or.inl (congrFun (e k (by omega) (by omega) (by omega)) p)) (fun k hk p hp => ep k p (by omega) (by omega)) (by rw [e 8 (by decide) (by decide) (by decide)]; exact h.2.1.2.2.2.2))
    (h.2.2.1.cg (e 1 (by decide) (by decide) (by decide)) (e 13 (by decide) (by decide) (by decide)) (e 14 (by decide) (by decide) (by decide))) (h.2.2.2.1.cg (fun j hj => e j (by omega) (by omega) (by omega))) (fun p hp h17 => ?_) (h.2.2.2.2.2.1.cg (e 1 (by decide) (by decide) (by decide)) (e 9 (by decide) (by decide) (by decide)) (e 18 (by decide) (by decide) (by decide))) (h.2.2.2.2.2.2.1.cg (Nat.le_succ t) (e 1 (by decide) (by decide) (by decide)) (e 6 (by decide) (by decide) (by decide)) (e 15 (by decide) (by decide) (by decide)) (e 19 (by decide) (by decide) (by decide)))
  rw [e1] at hp
  by_cases c : p = i
  · subst c
    have e16 : Y 16 p = X 14 p + er := by rw [eY]; simp [zu]
    rw [e16]
    obtain ⟨f, d, e14, -, f1, f2, -⟩ := h.2.2.1 p hp
    rw [e14]
    intro z
    have h1 := congrArg Int32.toInt z
    obtain ⟨g1, g2⟩ := zin_t he
    have a1 := Int32.le_iff_toInt_le.mp g1
    have a2 := Int32.le_iff_toInt_le.mp g2
    rw [show (-5 : Int32).toInt = -5 from by decide] at a1
    rw [show (5 : Int32).toInt = 5 from by decide] at a2
    rw [Int32.toInt_add, nI_toInt (by omega), show (-1 : Int32).toInt = -1 from by decide, Int.bmod_eq_of_le (by omega) (by omega)] at h1
    omega
  · rw [ep 16 p (by decide) c]
    rw [ep 17 p (by decide) c] at h17
    exact h.2.2.2.2.1 p hp h17
