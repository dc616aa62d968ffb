/-! out and night: the roads agree -/
theorem zsh_v (X : zX) (r p : Nat) : ∀ j k, p ≤ k → k < p + j → zsh X r p j 32 (4 * r + k) = X 32 (4 * r + (k + 1)) := by
  intro j
  induction j with
  | zero => intro k h1 h2; omega
  | succ j ih =>
    intro k h1 h2
    show zu (zsh X r p j) 32 (4 * r + (p + j)) (zsh X r p j 32 (4 * r + (p + j) + 1)) 32 (4 * r + k) = _
    by_cases c : k = p + j
    · subst c
      rw [zu_s, zsh_hi _ _ _ _ _ (by omega), Nat.add_assoc]
    · rw [zu_n _ _ _ _ (by omega)]; exact ih k h1 (by omega)
theorem zsh_lo (X : zX) (r p : Nat) : ∀ j i, i < 4 * r + p → zsh X r p j 32 i = X 32 i := by
  intro j
  induction j with
  | zero => intro i _; rfl
  | succ j ih =>
    intro i h
    show zu (zsh X r p j) 32 (4 * r + (p + j)) _ 32 i = _
    rw [zu_n _ _ _ _ (by omega)]; exact ih i h
theorem zQu.out {S : zS} {X : zX} (hN : mN X ≤ 60) (h : zQu S X) {q : Nat × Nat} (hq : zo2 X 3 = some q) : zQu (S.rS q.1 ((S.Rd q.1).eraseIdx q.2)) (m_out X).2 := by
  obtain ⟨hq1, hq2⟩ := zo2_ok 3 q hq
  rw [← h.rl q.1 hq1] at hq2
  obtain ⟨e0, he0⟩ : ∃ e, (S.Rd q.1)[q.2]? = some e := ⟨_, List.getElem?_eq_getElem hq2⟩
  obtain ⟨c1, c2, c3, c4⟩ := (h.2.2.1 q.1 hq1).2.2 q.2 e0 he0
  obtain ⟨n, en⟩ : ∃ n, n = (S.Rd q.1).length := ⟨_, rfl⟩
  have hn4 : n ≤ 4 := by rw [en]; exact (h.2.2.1 q.1 hq1).2.1
  have hcl : (X 32 (4 * q.1 + q.2)).toNatClampNeg = e0.2.1 := by rw [c1]; exact nI_clamp (by omega)
  obtain ⟨Z, eZ⟩ : ∃ Z, Z = zu (zu X 0 0 0) 12 e0.2.1 0 := ⟨_, rfl⟩
  have eY : (m_out X).2 = zu (zsh Z q.1 q.2 (n - 1 - q.2)) 31 q.1 (nI n - 1) := by
    unfold m_out
    rw [hq]
    show zu (zsh (zu (zu X 0 0 0) 12 (X 32 (4 * q.1 + q.2)).toNatClampNeg 0) q.1 q.2 (mR X q.1 - 1 - q.2)) 31 q.1 (nI (mR X q.1) - 1) = _
    rw [hcl, ← h.rl q.1 hq1, ← en, ← eZ]
  obtain ⟨Y, eYY⟩ : ∃ Y, Y = (m_out X).2 := ⟨_, rfl⟩
  rw [← eYY]
  rw [← eYY] at eY
  have eo : ∀ r, r ≠ 0 → r ≠ 12 → r ≠ 31 → r ≠ 32 → Y r = X r := fun r a b c d => by rw [eY, zu_row_ne _ _ _ c, zsh_cg _ _ _ d, eZ, zu_row_ne _ _ _ b, zu_row_ne _ _ _ a]
  have e12 : ∀ p, Y 12 p = if p = e0.2.1 then 0 else X 12 p := fun p => by
    rw [eY, zu_row_ne _ _ _ (by decide), zsh_cg _ _ _ (by decide), eZ]
    by_cases z : p = e0.2.1
    · subst z; rw [zu_s, if_pos rfl]
    · rw [zu_n _ _ _ _ (fun y => z y.2), if_neg z, zu_row_ne _ _ _ (by decide)]
  have e31 : ∀ r, Y 31 r = if r = q.1 then nI n - 1 else X 31 r := fun r => by
    rw [eY]
    by_cases z : r = q.1
    · subst z; rw [zu_s, if_pos rfl]
    · rw [zu_n _ _ _ _ (fun y => z y.2), if_neg z, zsh_cg _ _ _ (by decide), eZ, zu_row_ne _ _ _ (by decide), zu_row_ne _ _ _ (by decide)]
  have eZ32 : Z 32 = X 32 := by rw [eZ, zu_row_ne _ _ _ (by decide), zu_row_ne _ _ _ (by decide)]
  have e32 : Y 32 = zsh Z q.1 q.2 (n - 1 - q.2) 32 := by rw [eY, zu_row_ne _ _ _ (by decide)]
  have eN : mN Y = mN X := by unfold mN; rw [eo 1 (by decide) (by decide) (by decide) (by decide)]
  have eW : mW Y = mW X := by unfold mW; rw [eo 26 (by decide) (by decide) (by decide) (by decide)]
  have e28 := eo 28 (by decide) (by decide) (by decide) (by decide)
  have hRq : (S.rS q.1 ((S.Rd q.1).eraseIdx q.2)).Rd = va_up S.Rd q.1 ((S.Rd q.1).eraseIdx q.2) := rfl
  -- an entry after is an entry before
  have hold : ∀ r, r < 3 → ∀ (k : Nat) (e : zC3), (va_up S.Rd q.1 ((S.Rd q.1).eraseIdx q.2) r)[k]? = some e → ∃ k', (S.Rd r)[k']? = some e ∧ (r = q.1 → k' ≠ q.2 ∧ k' = (if k < q.2 then k else k + 1)) ∧ (r ≠ q.1 → k' = k) := fun r hr k e he => by
    by_cases c : r = q.1
    · subst c
      rw [va_up_self, List.getElem?_eraseIdx] at he
      by_cases d : k < q.2
      · rw [if_pos d] at he
        exact ⟨k, he, fun _ => ⟨by omega, by rw [if_pos d]⟩, fun z => absurd rfl z⟩
      · rw [if_neg d] at he
        exact ⟨k + 1, he, fun _ => ⟨by omega, by rw [if_neg d]⟩, fun z => absurd rfl z⟩
    · rw [va_up_ne _ _ c] at he
      exact ⟨k, he, fun z => absurd z c, fun _ => rfl⟩
  have hne0 : ∀ r, r < 3 → ∀ (k : Nat) (e : zC3), (va_up S.Rd q.1 ((S.Rd q.1).eraseIdx q.2) r)[k]? = some e → e.2.1 ≠ e0.2.1 := fun r hr k e he z => by
    obtain ⟨k', h1, h2, h3⟩ := hold r hr k e he
    obtain ⟨g1, g2⟩ := h.2.2.2 r hr q.1 hq1 k' q.2 e e0 h1 he0 z
    exact (h2 g1).1 g2
  refine ⟨⟨by rw [eW, eo 26 (by decide) (by decide) (by decide) (by decide)]; exact h.1.1, by rw [eW]; exact h.1.2.1, by rw [eW]; exact h.1.2.2⟩, ⟨fun k e he => ?_, h.2.1.2⟩, fun r hr => ?_, fun r hr r2 hr2 i j ei ej hi hj hij => ?_⟩
  · obtain ⟨k1, k2, k3, k4⟩ := h.2.1.1 k e he
    rw [eo 27 (by decide) (by decide) (by decide) (by decide), eN, e28, e12]
    refine ⟨k1, k2, k3, ?_⟩
    split
    · rfl
    · exact k4
  · rw [hRq]
    obtain ⟨k1, k2, k3⟩ := h.2.2.1 r hr
    refine ⟨?_, ?_, fun k e he => ?_⟩
    · rw [e31]
      by_cases c : r = q.1
      · subst c
        rw [if_pos rfl, va_up_self, List.length_eraseIdx_of_lt hq2, ← en]
        obtain ⟨m, em⟩ : ∃ m, n = m + 1 := ⟨n - 1, by omega⟩
        rw [em, nI_pred]; rfl
      · rw [if_neg c, va_up_ne _ _ c]; exact k1
    · by_cases c : r = q.1
      · subst c
        rw [va_up_self, List.length_eraseIdx_of_lt hq2]; omega
      · rw [va_up_ne _ _ c]; exact k2
    · obtain ⟨k', h1, h2, h3⟩ := hold r hr k e he
      obtain ⟨j1, j2, j3, j4⟩ := k3 k' e h1
      have hz := hne0 r hr k e he
      rw [eN, e28, e12, if_neg hz, e32]
      refine ⟨?_, j2, j3, j4⟩
      have hkl := (List.getElem?_eq_some_iff.mp h1).1
      by_cases c : r = q.1
      · obtain ⟨-, g2⟩ := h2 c
        subst c
        by_cases d : k < q.2
        · rw [if_pos d] at g2
          rw [zsh_lo _ _ _ _ _ (by omega), eZ32, ← g2]; exact j1
        · rw [if_neg d] at g2
          rw [zsh_v _ _ _ _ _ (by omega) (by omega), eZ32, ← g2]; exact j1
      · have g := h3 c
        subst g
        have hl4 : k' < 4 := by omega
        by_cases d : r < q.1
        · rw [zsh_lo _ _ _ _ _ (by omega), eZ32]; exact j1
        · rw [zsh_hi _ _ _ _ _ (by omega), eZ32]; exact j1
  · rw [hRq] at hi hj
    obtain ⟨k1, g1, g2, g3⟩ := hold r hr i ei hi
    obtain ⟨k2, f1, f2, f3⟩ := hold r2 hr2 j ej hj
    obtain ⟨a, b⟩ := h.2.2.2 r hr r2 hr2 k1 k2 ei ej g1 f1 hij
    refine ⟨a, ?_⟩
    subst a
    by_cases c : r = q.1
    · have g4 := (g2 c).2
      have f4 := (f2 c).2
      by_cases d1 : i < q.2 <;> by_cases d2 : j < q.2 <;> simp only [d1, d2, if_true, if_false] at g4 f4 <;> omega
    · rw [g3 c, f3 c] at b; exact b
