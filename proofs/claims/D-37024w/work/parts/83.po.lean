/-! those that wait, and those that stand -/
def zQw (S : zS) (X : zX) : Prop := (∀ (k : Nat) (e : zC3), S.Wt[k]? = some e → X 27 k = nI e.2.1 ∧ e.2.1 < mN X ∧ X 28 e.2.1 = e.2.2 ∧ X 12 e.2.1 = 0) ∧ ∀ (i j : Nat) (ei ej : zC3), S.Wt[i]? = some ei → S.Wt[j]? = some ej → ei.2.1 = ej.2.1 → i = j
def zQr (S : zS) (X : zX) : Prop := (∀ r, r < 3 → X 31 r = nI (S.Rd r).length ∧ (S.Rd r).length ≤ 4 ∧ ∀ (k : Nat) (e : zC3), (S.Rd r)[k]? = some e → X 32 (4 * r + k) = nI e.2.1 ∧ e.2.1 < mN X ∧ X 28 e.2.1 = e.2.2 ∧ ¬ X 12 e.2.1 = 0) ∧ ∀ r, r < 3 → ∀ r2, r2 < 3 → ∀ (i j : Nat) (ei ej : zC3), (S.Rd r)[i]? = some ei → (S.Rd r2)[j]? = some ej → ei.2.1 = ej.2.1 → r = r2 ∧ i = j
def zQu (S : zS) (X : zX) : Prop := (X 26 0 = nI (mW X) ∧ mW X ≤ 8 ∧ S.Wt.length = mW X) ∧ zQw S X ∧ zQr S X
theorem zQu.wo {S : zS} {X : zX} (h : zQu S X) : zWo S X := by
  refine ⟨⟨by rw [h.1.2.2]; exact h.1.2.1, fun e he => ?_⟩, fun r hr => ⟨(h.2.2.1 r hr).2.1, fun e he => ?_⟩⟩
  · obtain ⟨k, hk, rfl⟩ := List.getElem_of_mem he
    exact (h.2.1.1 k _ (List.getElem?_eq_getElem hk)).2.1
  · obtain ⟨k, hk, rfl⟩ := List.getElem_of_mem he
    exact ((h.2.2.1 r hr).2.2 k _ (List.getElem?_eq_getElem hk)).2.1
theorem zQu.we {S : zS} {X : zX} (hN : mN X ≤ 60) (h : zQu S X) : ∀ (k : Nat) (e : zC3), S.Wt[k]? = some e → X 27 k = nI e.2.1 ∧ e.2.1 < 60 := fun k e he => ⟨(h.2.1.1 k e he).1, by have := (h.2.1.1 k e he).2.1; omega⟩
theorem zQu.mwt {S : zS} {X : zX} (hN : mN X ≤ 60) (h : zQu S X) {k : Nat} {e : zC3} (he : S.Wt[k]? = some e) : mWt X k = e.2.1 := by
  obtain ⟨h1, h2⟩ := h.we hN k e he
  unfold mWt; rw [h1]; exact nI_clamp (by omega)
theorem zQu.wt {S : zS} {X : zX} (hN : mN X ≤ 60) (h : zQu S X) : ∀ k, k < S.Wt.length → zwt S.Wt k = X 28 (mWt X k) := by
  intro k hk
  have he := List.getElem?_eq_getElem hk
  rw [zwt_e he, h.mwt hN he, (h.2.1.1 k _ he).2.2.1]
theorem zany_l (L : List zC3) (f : zC3 → Bool) (g : Nat → Bool) : ∀ n, n ≤ L.length → (∀ (k : Nat) (e : zC3), L[k]? = some e → g k = f e) → zany g n = (L.take n).any f := by
  intro n
  induction n with
  | zero => intro _ _; simp [zany]
  | succ n ih =>
    intro hn h
    have he := List.getElem?_eq_getElem (show n < L.length by omega)
    show (zany g n || g n) = _
    rw [ih (by omega) h, h n _ he, List.take_add_one, he, List.any_append]
    simp
theorem zQu.ws {S : zS} {X : zX} (hN : mN X ≤ 60) (h : zQu S X) : ∀ i, i < mN X → S.Wt.any (fun e => decide (e.2.1 = i)) = mWs X (nI i) := by
  intro i hi
  unfold mWs
  rw [zany_l S.Wt (fun e => decide (e.2.1 = i)) _ (mW X) (by rw [h.1.2.2]; exact Nat.le_refl _) (fun k e he => by
    obtain ⟨h1, h2, -⟩ := h.2.1.1 k e he
    rw [h1]
    congr 1
    refine propext ⟨fun z => ?_, fun z => by rw [z]⟩
    have := congrArg Int32.toNatClampNeg z
    rw [nI_clamp (by omega), nI_clamp (by omega)] at this
    exact this), ← h.1.2.2, List.take_length]
theorem zQu.ht {S : zS} {X : zX} (hN : mN X ≤ 60) (h : zQu S X) : ∀ t, S.Wt.any (fun e => decide (e.2.2 = t)) = zany (fun k => decide (X 28 (mWt X k) = t)) (mW X) := by
  intro t
  rw [zany_l S.Wt (fun e => decide (e.2.2 = t)) _ (mW X) (by rw [h.1.2.2]; exact Nat.le_refl _) (fun k e he => by
    rw [h.mwt hN he, (h.2.1.1 k e he).2.2.1]), ← h.1.2.2, List.take_length]
theorem zQu.rl {S : zS} {X : zX} (h : zQu S X) : ∀ r, r < 3 → (S.Rd r).length = mR X r := by
  intro r hr
  obtain ⟨h1, h2, -⟩ := h.2.2.1 r hr
  unfold mR; rw [h1]; exact (nI_clamp (by omega)).symm
theorem zQu.re {S : zS} {X : zX} (h : zQu S X) : ∀ r, r < 3 → ∀ (k : Nat) (e : zC3), (S.Rd r)[k]? = some e → X 32 (4 * r + k) = nI e.2.1 := fun r hr k e he => ((h.2.2.1 r hr).2.2 k e he).1
theorem zQu.rt {S : zS} {X : zX} (hN : mN X ≤ 60) (h : zQu S X) : ∀ r, r < 3 → ∀ (k : Nat) (e : zC3), (S.Rd r)[k]? = some e → mTm X r k = e.2.2 := by
  intro r hr k e he
  obtain ⟨h1, h2, h3, -⟩ := (h.2.2.1 r hr).2.2 k e he
  unfold mTm
  rw [h1, nI_clamp (by omega), h3]
theorem zQu.rn {S : zS} {X : zX} (h : zQu S X) : ∀ r, r < 3 → ∀ (i j : Nat) (ei ej : zC3), (S.Rd r)[i]? = some ei → (S.Rd r)[j]? = some ej → ei.2.1 = ej.2.1 → i = j := fun r hr i j ei ej h1 h2 h3 => (h.2.2.2 r hr r hr i j ei ej h1 h2 h3).2
theorem zQu.mq {S : zS} {X : zX} (hN : mN X ≤ 60) (h : zQu S X) : MQw X := by
  intro k hk
  have he := List.getElem?_eq_getElem (show k < S.Wt.length by rw [h.1.2.2]; exact hk)
  obtain ⟨h1, h2, -⟩ := h.2.1.1 k _ he
  rw [h.mwt hN he]
  exact ⟨h1, h2⟩
theorem zQu.mr {S : zS} {X : zX} (hN : mN X ≤ 60) (h : zQu S X) : MR X := by
  intro r hr
  obtain ⟨h1, h2, h3⟩ := h.2.2.1 r hr
  rw [← h.rl r hr]
  refine ⟨h1, h2, fun k hk => ?_⟩
  have he := List.getElem?_eq_getElem hk
  obtain ⟨k1, k2, -⟩ := h3 k _ he
  rw [k1, nI_clamp (by omega)]
  exact ⟨rfl, k2⟩
theorem zQu.cg {S S' : zS} {X Y : zX} (h : zQu S X) (h1 : mN X ≤ mN Y) (h12 : ∀ p, p < mN X → Y 12 p = X 12 p) (h26 : Y 26 = X 26) (h27 : Y 27 = X 27) (h28 : Y 28 = X 28) (h31 : Y 31 = X 31) (h32 : Y 32 = X 32) (hW : S'.Wt = S.Wt) (hR : S'.Rd = S.Rd) : zQu S' Y := by
  have e1 : mW Y = mW X := by unfold mW; rw [h26]
  refine ⟨by rw [e1, h26, hW]; exact h.1, ⟨fun k e he => ?_, by rw [hW]; exact h.2.1.2⟩, fun r hr => ?_, by rw [hR]; exact h.2.2.2⟩
  · rw [hW] at he
    obtain ⟨k1, k2, k3, k4⟩ := h.2.1.1 k e he
    exact ⟨by rw [h27]; exact k1, by omega, by rw [h28]; exact k3, by rw [h12 _ k2]; exact k4⟩
  · rw [hR, h31, h32]
    obtain ⟨k1, k2, k3⟩ := h.2.2.1 r hr
    refine ⟨k1, k2, fun k e he => ?_⟩
    obtain ⟨j1, j2, j3, j4⟩ := k3 k e he
    exact ⟨j1, by omega, by rw [h28]; exact j3, by rw [h12 _ j2]; exact j4⟩
/-- one more waits -/
theorem zQu.comes {S : zS} {X : zX} (hN : mN X ≤ 60) (h : zQu S X) {q i : Nat} {tm : Int32} (hi : i < mN X) (h8 : mW X < 8) (hno : mWs X (nI i) = false) (h12 : X 12 i = 0) {Y : zX} (hY : Y = zu (zu (zu (zu X 0 0 0) 27 (mW X) (nI i)) 28 i tm) 26 0 (nI (mW X + 1))) : zQu (S.wA (q, i, tm)) Y := by
  have hne : ∀ (k : Nat) (e : zC3), S.Wt[k]? = some e → e.2.1 ≠ i := fun k e he z => by
    rw [← h.ws hN i hi] at hno
    have := List.any_eq_false.mp hno e (List.mem_of_getElem? he)
    exact this (decide_eq_true z)
  have e27 : ∀ k, Y 27 k = if k = mW X then nI i else X 27 k := fun k => by rw [hY]; simp [zu]
  have e28 : ∀ k, Y 28 k = if k = i then tm else X 28 k := fun k => by rw [hY]; simp [zu]
  have eo : ∀ r, r ≠ 0 → r ≠ 26 → r ≠ 27 → r ≠ 28 → Y r = X r := fun r a b c d => by rw [hY, zu_row_ne _ _ _ b, zu_row_ne _ _ _ d, zu_row_ne _ _ _ c, zu_row_ne _ _ _ a]
  have e26 : Y 26 0 = nI (mW X + 1) := by rw [hY]; exact zu_s _ 26 0 _
  have eW : mW Y = mW X + 1 := by
    rw [show mW Y = (Y 26 0).toNatClampNeg from rfl, e26]; exact nI_clamp (by omega)
  have eN : mN Y = mN X := by unfold mN; rw [eo 1 (by decide) (by decide) (by decide) (by decide)]
  have hl := h.1.2.2
  have hWt : (S.wA (q, i, tm)).Wt = S.Wt ++ [(q, i, tm)] := rfl
  have hcase : ∀ (k : Nat) (e : zC3), (S.Wt ++ [(q, i, tm)])[k]? = some e → (S.Wt[k]? = some e ∧ k < mW X) ∨ (k = mW X ∧ e = (q, i, tm)) := fun k e he => by
    by_cases c : k < S.Wt.length
    · rw [List.getElem?_append_left c] at he
      exact Or.inl ⟨he, by omega⟩
    · rw [List.getElem?_append_right (by omega)] at he
      have hk : k - S.Wt.length = 0 := by
        apply Classical.byContradiction
        intro z
        rw [List.getElem?_eq_none (by show 1 ≤ _; omega)] at he; cases he
      rw [hk] at he
      have he : some (q, i, tm) = some e := he
      cases he
      exact Or.inr ⟨by omega, rfl⟩
  refine ⟨⟨by rw [eW]; exact e26, by omega, by rw [hWt, List.length_append, eW, hl]; rfl⟩, ⟨fun k e he => ?_, fun k1 k2 a b ha hb hab => ?_⟩, fun r hr => ?_, h.2.2.2⟩
  · rw [hWt] at he
    rw [e27, e28, eN, eo 12 (by decide) (by decide) (by decide) (by decide)]
    rcases hcase k e he with ⟨g1, g2⟩ | ⟨g1, g2⟩
    · obtain ⟨k1, k2, k3, k4⟩ := h.2.1.1 k e g1
      rw [if_neg (by omega), if_neg (hne k e g1)]
      exact ⟨k1, k2, k3, k4⟩
    · subst g2
      rw [if_pos g1, if_pos rfl]
      exact ⟨rfl, hi, rfl, h12⟩
  · rw [hWt] at ha hb
    rcases hcase k1 a ha with ⟨g1, g2⟩ | ⟨g1, g2⟩ <;> rcases hcase k2 b hb with ⟨g3, g4⟩ | ⟨g3, g4⟩
    · exact h.2.1.2 k1 k2 a b g1 g3 hab
    · subst g4; exact absurd hab (hne k1 a g1)
    · subst g2; exact absurd hab.symm (hne k2 b g3)
    · omega
  · show Y 31 r = nI (S.Rd r).length ∧ _
    rw [eo 31 (by decide) (by decide) (by decide) (by decide), eo 32 (by decide) (by decide) (by decide) (by decide), eN, eo 12 (by decide) (by decide) (by decide) (by decide)]
    obtain ⟨k1, k2, k3⟩ := h.2.2.1 r hr
    refine ⟨k1, k2, fun k e he => ?_⟩
    obtain ⟨j1, j2, j3, j4⟩ := k3 k e he
    refine ⟨j1, j2, ?_, j4⟩
    rw [e28, if_neg (fun z => j4 (by rw [z]; exact h12))]
    exact j3
