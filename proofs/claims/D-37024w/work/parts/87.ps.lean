/-! THE INVARIANT after t calls -/
def zRw (X : zX) : Prop := (∀ p, (X 9 p = 0 ∨ X 9 p = 1) ∧ (X 10 p = 0 ∨ X 10 p = 1) ∧ (X 11 p = 0 ∨ X 11 p = 1) ∧ (X 12 p = 0 ∨ X 12 p = 1)) ∧
  (∀ p, mN X ≤ p → X 6 p = 0 ∧ X 7 p = 0 ∧ X 8 p = 0 ∧ X 9 p = 0 ∧ X 10 p = 0 ∧ X 11 p = 0 ∧ X 12 p = 0 ∧ X 15 p = 0 ∧ X 16 p = 0 ∧ X 17 p = 0 ∧ X 18 p = 0 ∧ X 19 p = 0) ∧
  zMd X ∧ (∀ k, ¬ X 21 k < 0) ∧ ∀ p, ¬ X 8 p < 0
def zGt (X : zX) : Prop := ∀ p, p < mN X → ¬ X 17 p = 0 → ¬ X 16 p = -1
def zIv (t : Nat) (S : zS) (X : zX) : Prop := zBt S X ∧ zRw X ∧ zWh X ∧ zRl S X ∧ zGt X ∧ zFw X ∧ zLv t X ∧ zTm t S X ∧ zLg t S X ∧ zQu S X
theorem zWh.cg {X Y : zX} (h : zWh X) (h1 : Y 1 = X 1) (h13 : Y 13 = X 13) (h14 : Y 14 = X 14) : zWh Y := by
  have e1 : mN Y = mN X := by unfold mN; rw [h1]
  unfold zWh; rw [e1, h13, h14]; exact h
theorem zGt.cg {X Y : zX} (h : zGt X) (h1 : Y 1 = X 1) (h16 : Y 16 = X 16) (h17 : Y 17 = X 17) : zGt Y := by
  have e1 : mN Y = mN X := by unfold mN; rw [h1]
  unfold zGt; rw [e1, h16, h17]; exact h
theorem zFw.cg {X Y : zX} (h : zFw X) (h1 : Y 1 = X 1) (h9 : Y 9 = X 9) (h18 : Y 18 = X 18) : zFw Y := by
  have e1 : mN Y = mN X := by unfold mN; rw [h1]
  unfold zFw; rw [e1, h9, h18]; exact h
theorem zLv.cg {t t' : Nat} {X Y : zX} (h : zLv t X) (ht : t ≤ t') (h1 : Y 1 = X 1) (h6 : Y 6 = X 6) (h15 : Y 15 = X 15) (h19 : Y 19 = X 19) : zLv t' Y := by
  have e1 : mN Y = mN X := by unfold mN; rw [h1]
  unfold zLv; rw [e1, h6, h15, h19]
  intro p hp
  obtain ⟨a, b, r, k1, k2, k3, k4, k5, k6⟩ := h p hp
  exact ⟨a, b, r, k1, k2, k3, k4, by omega, by omega⟩
theorem zRw.cg {X Y : zX} (h : zRw X) (e : ∀ k, (k = 1 ∨ k = 4 ∨ (6 ≤ k ∧ k ≤ 12) ∨ (15 ≤ k ∧ k ≤ 19) ∨ k = 21) → Y k = X k) : zRw Y := by
  have e1 : mN Y = mN X := by unfold mN; rw [e 1 (by omega)]
  unfold zRw zMd
  rw [e1, e 4 (by omega), e 6 (by omega), e 7 (by omega), e 8 (by omega), e 9 (by omega), e 10 (by omega), e 11 (by omega), e 12 (by omega), e 15 (by omega), e 16 (by omega), e 17 (by omega), e 18 (by omega), e 19 (by omega), e 21 (by omega)]
  exact h
/-- released trains: those that were, with the same trees; nothing in them is worse -/
theorem zRl.of {S S' : zS} {X Y : zX} (h : zRl S X) (h1 : mN Y = mN X) (h2 : Y 2 = X 2) (h5 : Y 5 = X 5) (hK : ∀ t, t < mN X → ¬ X 11 t = 0 → ¬ S.K t = [] → ¬ S'.K t = []) (h11 : ∀ t, t < mN X → ¬ Y 11 t = 0 → ¬ X 11 t = 0) (hp : ∀ t, t < mN X → ¬ Y 11 t = 0 → ∀ p, p < mN X → mHd X p = t → (X 9 p = 0 → Y 9 p = 0) ∧ (X 2 p = 3 → zGd X p → zGd Y p)) : zRl S' Y := by
  intro t ht hy
  rw [h1] at ht
  obtain ⟨k1, k2, k3⟩ := h t ht (h11 t ht hy)
  refine ⟨by rw [h2]; exact k1, hK t ht (h11 t ht hy) k2, fun p hpl hd => ?_⟩
  rw [h1] at hpl
  rw [mHd_cg h5] at hd
  obtain ⟨j1, j2⟩ := k3 p hpl hd
  obtain ⟨g1, g2⟩ := hp t ht hy p hpl hd
  exact ⟨g1 j1, fun h3 => by rw [h2] at h3; exact g2 h3 (j2 h3)⟩
theorem zGd.cg {X Y : zX} {p : Nat} (h : zGd X p) (h13 : Y 13 p = X 13 p) (h14 : Y 14 p = X 14 p) : zGd Y p := by
  unfold zGd; rw [h13, h14]; exact h
/-- rows that no part sees -/
theorem zIv.hid {t t' : Nat} {S S' : zS} {X Y : zX} (h : zIv t S X) (ht : t ≤ t') (e : ∀ k, k ≠ 0 → k ≠ 29 → k ≠ 30 → Y k = X k) (hK : S'.K = S.K) (hT : S'.TL = S.TL) (hL : S'.L = S.L) (hW : S'.Wt = S.Wt) (hR : S'.Rd = S.Rd) : zIv t' S' Y := by
  obtain ⟨i1, i2, i3, i4, i5, i6, i7, i8, i9, i10⟩ := h
  have e1 : mN Y = mN X := by unfold mN; rw [e 1 (by decide) (by decide) (by decide)]
  refine ⟨i1.cg (e 1 (by decide) (by decide) (by decide)) (e 2 (by decide) (by decide) (by decide)) (e 5 (by decide) (by decide) (by decide)) hK, i2.cg (fun k hk => e k (by omega) (by omega) (by omega)), i3.cg (e 1 (by decide) (by decide) (by decide)) (e 13 (by decide) (by decide) (by decide)) (e 14 (by decide) (by decide) (by decide)), ?_,
    i5.cg (e 1 (by decide) (by decide) (by decide)) (e 16 (by decide) (by decide) (by decide)) (e 17 (by decide) (by decide) (by decide)), i6.cg (e 1 (by decide) (by decide) (by decide)) (e 9 (by decide) (by decide) (by decide)) (e 18 (by decide) (by decide) (by decide)), i7.cg ht (e 1 (by decide) (by decide) (by decide)) (e 6 (by decide) (by decide) (by decide)) (e 15 (by decide) (by decide) (by decide)) (e 19 (by decide) (by decide) (by decide)),
    (i8.up ht).cg e1 (e 5 (by decide) (by decide) (by decide)) (e 23 (by decide) (by decide) (by decide)) (e 24 (by decide) (by decide) (by decide)) (e 25 (by decide) (by decide) (by decide)) hT, (i9.up ht).cg e1 (e 2 (by decide) (by decide) (by decide)) (e 5 (by decide) (by decide) (by decide)) (e 6 (by decide) (by decide) (by decide)) hL,
    i10.cg (by omega) (fun p _ => by rw [e 12 (by decide) (by decide) (by decide)]) (e 26 (by decide) (by decide) (by decide)) (e 27 (by decide) (by decide) (by decide)) (e 28 (by decide) (by decide) (by decide)) (e 31 (by decide) (by decide) (by decide)) (e 32 (by decide) (by decide) (by decide)) hW hR⟩
  exact i4.of e1 (e 2 (by decide) (by decide) (by decide)) (e 5 (by decide) (by decide) (by decide)) (fun t _ _ z => by rw [hK]; exact z) (fun t _ z => by rw [e 11 (by decide) (by decide) (by decide)] at z; exact z) (fun t _ _ p _ _ => ⟨fun z => by rw [e 9 (by decide) (by decide) (by decide)]; exact z, fun _ z => z.cg (by rw [e 13 (by decide) (by decide) (by decide)]) (by rw [e 14 (by decide) (by decide) (by decide)])⟩)
/-- at the start -/
theorem zIv.start (AA : Nat → Nat) : zIv 0 (zS0 AA) (fun _ _ => 0) := by
  have hN : mN (fun _ _ => 0) = 0 := by decide
  refine ⟨⟨⟨⟨by rw [hN]; rfl, by rw [hN]; omega⟩, fun p hp => by rw [hN] at hp; omega, fun p hp => by rw [hN] at hp; omega⟩, fun p hp => by rw [hN] at hp; omega, fun p hp => by rw [hN] at hp; omega, fun p hp => by rw [hN] at hp; omega⟩,
    ⟨fun p => ⟨Or.inl rfl, Or.inl rfl, Or.inl rfl, Or.inl rfl⟩, fun p _ => ⟨rfl, rfl, rfl, rfl, rfl, rfl, rfl, rfl, rfl, rfl, rfl, rfl⟩, fun p hp => by rw [hN] at hp; omega, fun k => by show ¬ (0 : Int32) < 0; decide, fun p => by show ¬ (0 : Int32) < 0; decide⟩,
    fun p hp => by rw [hN] at hp; omega, fun p hp => by rw [hN] at hp; omega, fun p hp => by rw [hN] at hp; omega, fun p hp => by rw [hN] at hp; omega, fun p hp => by rw [hN] at hp; omega,
    ⟨⟨by decide, by decide⟩, fun a ha => absurd ha (by show ¬ a < mM (fun _ _ => 0); rw [show mM (fun _ _ => 0) = 0 from by decide]; omega), fun p hp => by rw [hN] at hp; omega⟩,
    ⟨Nat.le_refl 0, fun e he => absurd he List.not_mem_nil, fun i hi => by rw [hN] at hi; omega, fun i p hp => ?_⟩,
    ⟨⟨by decide, by decide, by show 0 = mW (fun _ _ => 0); decide⟩, ⟨fun k e he => absurd (show ([] : List zC3)[k]? = some e from he) (by simp), fun i j ei ej hi => absurd (show ([] : List zC3)[i]? = some ei from hi) (by simp)⟩, fun r hr => ⟨rfl, Nat.zero_le _, fun k e he => absurd (show ([] : List zC3)[k]? = some e from he) (by simp)⟩, fun r hr r2 hr2 i j ei ej hi => absurd (show ([] : List zC3)[i]? = some ei from hi) (by simp)⟩⟩
  show zf6 60 p = _
  unfold zf6 zhX
  rw [hN, if_pos hp, if_neg (fun z => by omega)]
/-- a train without bars may run -/
theorem zrel_ok {S : zS} {X : zX} (h : zBt S X) (hw : zWh X) {t : Nat} (ht : t < mN X) (h2 : X 2 t = 0) (hb : mBo X t = 0) : ¬ S.K t = [] ∧ ∀ p, p < mN X → mHd X p = t → X 9 p = 0 ∧ (X 2 p = 3 → zGd X p) := by
  have h5 := h.tr ht h2
  have hn := h.1.1.2
  have hno : ∀ k r, 1 ≤ r → r + k = 8 → zbo X t k r = 0 → ∀ r', r ≤ r' → r' < 8 → ∀ p, p < mN X → mIi X p t = true → mBb X p r' = false := by
    intro k
    induction k with
    | zero => intro r h1 h8 _ r' h3 h4; omega
    | succ k ih =>
      intro r h1 h8 hz r' h3 h4 p hp hi
      have e : zbo X t (k + 1) r = match zfi (fun p => mIi X p t && mBb X p r) (mN X) 0 with | some p => nI (100 * r + p) | none => zbo X t k (r + 1) := rfl
      cases hf : zfi (fun p => mIi X p t && mBb X p r) (mN X) 0 with
      | some q =>
        rw [e, hf] at hz
        have := (zfi_lt _ _ _ hf).1
        exact absurd hz (zBB_nz r (by omega) h1 q (by omega))
      | none =>
        rw [e, hf] at hz
        by_cases c : r' = r
        · subst c
          apply Classical.byContradiction
          intro z
          have hz2 : (mIi X p t && mBb X p r') = true := by rw [hi]; cases hb2 : mBb X p r' <;> simp_all
          have : ∀ (f : Nat → Bool) n j, zfi f n j = none → ∀ q, j ≤ q → q < j + n → f q = false := by
            intro f n
            induction n with
            | zero => intro j _ q h1 h2; omega
            | succ n ihn =>
              intro j hj q h1 h2
              have ej : zfi f (n + 1) j = if f j = true then some j else zfi f n (j + 1) := rfl
              rw [ej] at hj
              by_cases fj : f j = true
              · rw [if_pos fj] at hj; cases hj
              · rw [if_neg fj] at hj
                by_cases y : q = j
                · rw [y]; exact Bool.eq_false_iff.mpr fj
                · exact ihn (j + 1) hj q (by omega) (by omega)
          have := this _ _ _ hf p (Nat.zero_le _) (by omega)
          rw [hz2] at this; cases this
        · exact ih (r + 1) (by omega) (by omega) hz r' (by omega) h4 p hp hi
  have key := hno 7 1 (by omega) rfl hb
  have hit : mIi X t t = true := (mIi_hd h5).mpr (mHd_top h5)
  refine ⟨fun z => ?_, fun p hp hd => ⟨?_, fun h3 => ?_⟩⟩
  · have k1 : mHe X t = false := key 1 (by omega) (by omega) t ht hit
    unfold mHe at k1
    rw [if_neg (by rw [h2]; decide), ← h.ln ht, z, h2] at k1
    exact absurd k1 (by decide)
  · have k2 : decide (¬ X 9 p = 0) = false := key 2 (by omega) (by omega) p hp ((mIi_hd h5).mpr hd)
    have := of_decide_eq_false k2
    exact Classical.byContradiction this
  · have k5 : mWn X p = false := key 5 (by omega) (by omega) p hp ((mIi_hd h5).mpr hd)
    obtain ⟨f, d, e1, e2, g1, g2, g3, g4⟩ := hw p hp
    unfold mWn at k5
    rw [h3, e1, e2] at k5
    have k6 : ¬ nI d < 8500 ∧ ¬ ¬ 250 ≤ nI f := by
      constructor
      · intro z; rw [decide_eq_true z] at k5; simp at k5
      · intro z; rw [decide_eq_true z, Bool.or_true] at k5; simp at k5
    have a1 : 8500 ≤ d := (nI_leI (a := 8500) (by omega) (by omega)).mp (Int32.not_lt.mp k6.1)
    have a2 : 250 ≤ f := (nI_leI (a := 250) (by omega) (by omega)).mp (Classical.not_not.mp k6.2)
    exact ⟨f, d, e1, e2, a2, g2, g3, by omega⟩
