/-! the trails and the moves -/
def zML (X : zX) (p : Nat) : List Nat := (List.range (mM X)).filter (mMf X (nI p))
def zTm (t : Nat) (S : zS) (X : zX) : Prop := (X 23 0 = nI (mM X) ∧ mM X ≤ t) ∧ (∀ a, a < mM X → ∃ q, q < mN X ∧ X 24 a = nI q) ∧ ∀ p, p < mN X → (∀ o ∈ S.TL p, ∀ q, o = some q → q < mN X) ∧ (S.TL p).length = (zML X p).length ∧ ∀ k o a, (S.TL p)[k]? = some o → (zML X p)[k]? = some a → X 25 a = (if X 5 p = -2 ∧ k + 1 = (S.TL p).length then -2 else zro2 o)
theorem zct_fil (f : Nat → Bool) : ∀ n, zct f n = ((List.range n).filter f).length := by
  intro n
  induction n with
  | zero => rfl
  | succ n ih =>
    rw [List.range_succ, List.filter_append, List.length_append, ← ih]
    show zct f n + (if f n = true then 1 else 0) = _
    by_cases c : f n = true
    · rw [if_pos c, List.filter_cons_of_pos c]; rfl
    · rw [if_neg c, List.filter_cons_of_neg c]; rfl
theorem zfil_k (f : Nat → Bool) : ∀ n k a, ((List.range n).filter f)[k]? = some a → a < n ∧ f a = true ∧ zct f a = k := by
  intro n
  induction n with
  | zero => intro k a h; simp at h
  | succ n ih =>
    intro k a h
    rw [List.range_succ, List.filter_append] at h
    by_cases c : k < ((List.range n).filter f).length
    · rw [List.getElem?_append_left c] at h
      obtain ⟨h1, h2, h3⟩ := ih k a h
      exact ⟨by omega, h2, h3⟩
    · rw [List.getElem?_append_right (by omega)] at h
      by_cases q : f n = true
      · rw [List.filter_cons_of_pos q] at h
        have hk : k - ((List.range n).filter f).length = 0 := by
          apply Classical.byContradiction
          intro z
          rw [List.getElem?_eq_none (by show 1 ≤ _; omega)] at h; cases h
        rw [hk] at h
        have h : some n = some a := h
        cases h
        exact ⟨by omega, q, by rw [zct_fil]; omega⟩
      · rw [List.filter_cons_of_neg q] at h
        simp at h
theorem zfi_is {f : Nat → Bool} {a : Nat} : ∀ n j, j ≤ a → a < j + n → f a = true → (∀ i, j ≤ i → i < a → f i = false) → zfi f n j = some a := by
  intro n
  induction n with
  | zero => intro j h1 h2; omega
  | succ n ih =>
    intro j h1 h2 h3 h4
    show (if f j = true then some j else zfi f n (j + 1)) = some a
    by_cases e : j = a
    · subst e; rw [if_pos h3]
    · rw [if_neg (by rw [h4 j (Nat.le_refl _) (by omega)]; decide)]
      exact ih (j + 1) (by omega) (by omega) h3 (fun i hi hi2 => h4 i (by omega) hi2)
theorem zTm.mp {t : Nat} {S : zS} {X : zX} (h : zTm t S X) : ∀ i, i < mN X → (S.TL i).length = mMp X (nI i) := by
  intro i hi
  rw [(h.2.2 i hi).2.1]
  unfold mMp
  rw [zct_fil]; rfl
theorem zTm.to {t : Nat} {S : zS} {X : zX} (ht : t ≤ 100) (h : zTm t S X) : zTo S X := by
  intro p hp
  refine ⟨?_, (h.2.2 p hp).1⟩
  rw [h.mp p hp]
  exact Nat.le_trans (zct_le _ _) (Nat.le_trans h.1.2 ht)
theorem zTm.tr {t : Nat} {S : zS} {X : zX} (h : zTm t S X) : ∀ i, i < mN X → ∀ k o, (S.TL i)[k]? = some o → X 25 (mTr X (nI i) k) = if X 5 i = -2 ∧ k + 1 = (S.TL i).length then -2 else zro2 o := by
  intro i hi k o ho
  obtain ⟨-, h2, h3⟩ := h.2.2 i hi
  have hk : k < (zML X i).length := by rw [← h2]; exact (List.getElem?_eq_some_iff.mp ho).1
  obtain ⟨a, ha⟩ : ∃ a, (zML X i)[k]? = some a := ⟨_, List.getElem?_eq_getElem hk⟩
  obtain ⟨a1, a2, a3⟩ := zfil_k _ _ _ _ ha
  have hz : mTr X (nI i) k = a := by
    unfold mTr
    rw [zfi_is (f := mTg X (nI i) k) (a := a) (mM X) 0 (Nat.zero_le _) (by omega) (by unfold mTg; rw [a2, a3]; simp) (fun j _ hj => by
      unfold mTg
      by_cases c : mMf X (nI i) j = true
      · have e1 : zct (mMf X (nI i)) (j + 1) = zct (mMf X (nI i)) j + 1 := by
          show zct (mMf X (nI i)) j + (if mMf X (nI i) j = true then 1 else 0) = _
          rw [if_pos c]
        have e2 := zct_mono (mMf X (nI i)) (show j + 1 ≤ a by omega)
        rw [decide_eq_false (show ¬ zct (mMf X (nI i)) j = k by omega), Bool.and_false]
      · rw [Bool.eq_false_iff.mpr c, Bool.false_and])]
    rfl
  rw [hz]
  exact h3 k o a ho ha
/-- other rows, other lists -/
theorem zTm.cg {t : Nat} {S S' : zS} {X Y : zX} (h : zTm t S X) (h1 : mN Y = mN X) (h5 : Y 5 = X 5) (h23 : Y 23 = X 23) (h24 : Y 24 = X 24) (h25 : Y 25 = X 25) (hT : S'.TL = S.TL) : zTm t S' Y := by
  have e1 : mM Y = mM X := by unfold mM; rw [h23]
  have e2 : ∀ p, zML Y p = zML X p := fun p => by unfold zML mMf; rw [e1, h24]
  unfold zTm
  rw [e1, h23, h1, h24, h25, h5, hT]
  refine ⟨h.1, h.2.1, fun p hp => ?_⟩
  rw [e2]
  exact h.2.2 p hp
theorem zTm.up {t t' : Nat} {S : zS} {X : zX} (h : zTm t S X) (ht : t ≤ t') : zTm t' S X := ⟨⟨h.1.1, Nat.le_trans h.1.2 ht⟩, h.2⟩
/-- a move: of part i, to o (or to the scrap) -/
theorem zTm.mv {t : Nat} {S S' : zS} {X Y : zX} (h : zTm t S X) (ht : t < 100) (hN : mN X ≤ 60) {i : Nat} {o : Option Nat} {to : Int32} (hi : i < mN X) (hs : ¬ X 5 i = -2) (ho : ∀ q, o = some q → q < mN X) (hto : (to = -2 ∧ o = none) ∨ (¬ to = -2 ∧ to = zro2 o))
    (h1 : mN Y = mN X) (h5 : ∀ p, Y 5 p = if p = i then to else X 5 p) (h23 : Y 23 0 = nI (mM X + 1)) (h24 : ∀ a, Y 24 a = if a = mM X then nI i else X 24 a) (h25 : ∀ a, Y 25 a = if a = mM X then to else X 25 a) (hT : S'.TL = va_up S.TL i (S.TL i ++ [o])) : zTm (t + 1) S' Y := by
  have hm := h.1.2
  have e1 : mM Y = mM X + 1 := by rw [show mM Y = (Y 23 0).toNatClampNeg from rfl, h23]; exact nI_clamp (by omega)
  have e2 : ∀ p, p < mN X → zML Y p = zML X p ++ (if p = i then [mM X] else []) := fun p hp => by
    unfold zML
    rw [e1, List.range_succ, List.filter_append]
    congr 1
    · refine List.filter_congr (fun a ha => ?_)
      have := List.mem_range.mp ha
      unfold mMf
      rw [h24, if_neg (by omega)]
    · have hz : mMf Y (nI p) (mM X) = decide (i = p) := by
        unfold mMf
        rw [h24, if_pos rfl]
        congr 1
        refine propext ⟨fun z => ?_, fun z => by rw [z]⟩
        have := congrArg Int32.toNatClampNeg z
        rw [nI_clamp (by omega), nI_clamp (by omega)] at this
        exact this
      by_cases c : p = i
      · rw [if_pos c, List.filter_cons_of_pos (by rw [hz, c]; simp)]; rfl
      · rw [if_neg c, List.filter_cons_of_neg (by rw [hz]; simp; exact fun z => c z.symm)]; rfl
  refine ⟨⟨by rw [e1]; exact h23, by omega⟩, fun a ha => ?_, fun p hp => ?_⟩
  · rw [h1, h24]
    by_cases c : a = mM X
    · rw [if_pos c]; exact ⟨i, hi, rfl⟩
    · rw [if_neg c]; exact h.2.1 a (by omega)
  · rw [h1] at hp ⊢
    obtain ⟨g1, g2, g3⟩ := h.2.2 p hp
    rw [hT, e2 p hp]
    by_cases c : p = i
    · subst c
      rw [va_up_self, if_pos rfl]
      refine ⟨fun x hx q hq => ?_, by rw [List.length_append, List.length_append, g2]; rfl, fun k x a hk ha => ?_⟩
      · rcases List.mem_append.mp hx with z | z
        · exact g1 x z q hq
        · rw [List.mem_singleton.mp z] at hq; exact ho q hq
      · rw [h5, if_pos rfl, List.length_append]
        show Y 25 a = if to = -2 ∧ k + 1 = (S.TL p).length + 1 then -2 else zro2 x
        by_cases d : k < (S.TL p).length
        · rw [List.getElem?_append_left d] at hk
          rw [List.getElem?_append_left (by rw [← g2]; exact d)] at ha
          have := zfil_k _ _ _ _ ha
          rw [h25, if_neg (by omega), g3 k x a hk ha, if_neg (fun z => hs z.1), if_neg (fun z => by omega)]
        · have hkl : k = (S.TL p).length := by
            have := (List.getElem?_eq_some_iff.mp hk).1
            rw [List.length_append] at this
            have : k < (S.TL p).length + 1 := this
            omega
          subst hkl
          rw [List.getElem?_append_right (Nat.le_refl _), Nat.sub_self] at hk
          rw [g2, List.getElem?_append_right (Nat.le_refl _), Nat.sub_self] at ha
          have hk : some o = some x := hk
          have ha : some (mM X) = some a := ha
          cases hk; cases ha
          rw [h25, if_pos rfl]
          rcases hto with ⟨y1, y2⟩ | ⟨y1, y2⟩
          · rw [if_pos ⟨y1, rfl⟩, y1]
          · rw [if_neg (fun z => y1 z.1), y2]
    · rw [va_up_ne _ _ c, if_neg c, List.append_nil, h5, if_neg c]
      refine ⟨g1, g2, fun k x a hk ha => ?_⟩
      have := zfil_k _ _ _ _ ha
      rw [h25, if_neg (by omega)]
      exact g3 k x a hk ha
/-- a new part has no moves -/
theorem zTm.new {t : Nat} {S S' : zS} {X Y : zX} (h : zTm t S X) (hN : mN X < 60) (h1 : mN Y = mN X + 1) (h5 : ∀ p, p < mN X → Y 5 p = X 5 p) (h23 : Y 23 = X 23) (h24 : Y 24 = X 24) (h25 : Y 25 = X 25) (hT : S'.TL = va_up S.TL (mN X) []) : zTm t S' Y := by
  have e1 : mM Y = mM X := by unfold mM; rw [h23]
  have e2 : ∀ p, zML Y p = zML X p := fun p => by unfold zML mMf; rw [e1, h24]
  refine ⟨by rw [e1, h23]; exact h.1, fun a ha => ?_, fun p hp => ?_⟩
  · rw [e1] at ha
    obtain ⟨q, h2, h3⟩ := h.2.1 a ha
    exact ⟨q, by omega, by rw [h24]; exact h3⟩
  · rw [e2, hT, h25]
    by_cases c : p = mN X
    · subst c
      rw [va_up_self]
      have hz : zML X (mN X) = [] := by
        unfold zML
        refine List.filter_eq_nil_iff.mpr (fun a ha => ?_)
        obtain ⟨q, h2, h3⟩ := h.2.1 a (List.mem_range.mp ha)
        unfold mMf
        rw [h3]
        simp only [decide_eq_true_eq]
        intro z
        have := congrArg Int32.toNatClampNeg z
        rw [nI_clamp (by omega), nI_clamp (by omega)] at this
        omega
      rw [hz]
      exact ⟨fun o ho => absurd ho List.not_mem_nil, rfl, fun k o a hk => by simp at hk⟩
    · rw [va_up_ne _ _ c, h5 p (by omega)]
      obtain ⟨g1, g2, g3⟩ := h.2.2 p (by omega)
      exact ⟨fun o ho q hq => by have := g1 o ho q hq; omega, g2, g3⟩
