/-! THE TREE's WRITERS -/
def zqa (S : zS) : Nat → Nat → zX → zX
  | 0, _, X => X
  | n + 1, i, X => (S.K i).foldl (fun Y q => zqa S n q Y) (m_holds X i)
theorem zfold_keep {S : zS} {f : zX → Nat → zX} {k : Nat} (hf : ∀ Y q, f Y q k = Y k) : ∀ (L : List Nat) (X : zX), L.foldl f X k = X k := by
  intro L
  induction L with
  | nil => intro X; rfl
  | cons q L ih => intro X; exact (ih _).trans (hf X q)
theorem m_holds_keep (X : zX) (i : Nat) {k : Nat} (h9 : k ≠ 9) (h11 : k ≠ 11) : m_holds X i k = X k := by
  unfold m_holds m_ends
  rw [zu_row_ne _ _ _ h11, zu_row_ne _ _ _ h9]
theorem zqa_keep (S : zS) {k : Nat} (h9 : k ≠ 9) (h11 : k ≠ 11) : ∀ (n i : Nat) (X : zX), zqa S n i X k = X k := by
  intro n
  induction n with
  | zero => intro i X; rfl
  | succ n ih =>
    intro i X
    show (S.K i).foldl (fun Y q => zqa S n q Y) (m_holds X i) k = X k
    rw [zfold_keep (S := S) (fun Y q => ih q Y), m_holds_keep X i h9 h11]
/-- the tree's facts, carried to a state with the same tree -/
theorem zTr {S : zS} {X Y : zX} (h1 : Y 1 = X 1) (h2 : Y 2 = X 2) (h5 : Y 5 = X 5) (hI : MH X) (hC : zKo S X) (hKk : zKk S X) : MH Y ∧ zKo S Y ∧ zKk S Y ∧ mN Y = mN X := by
  have hn : mN Y = mN X := by unfold mN; rw [h1]
  have hk : ∀ p, mK Y p = mK X p := fun p => by unfold mK; rw [h2]
  refine ⟨hI.cg (by rw [h1]) h2 h5, fun p hp => ?_, fun p hp q hq => ?_, hn⟩
  · rw [hn] at hp ⊢; exact hC p hp
  · rw [hn] at hp; rw [hk, hk]; exact hKk p hp q hq
def zgo (S : zS) (km se : Int32) : Nat → Nat → zX → zX
  | 0, _, X => X
  | n + 1, i, X => (S.K i).foldl (fun Y q => zgo S km se n q Y) (m_goes X i km se)
theorem m_goes_keep (X : zX) (i : Nat) (km se : Int32) {k : Nat} (h : k ≠ 6 ∧ k ≠ 7 ∧ k ≠ 13 ∧ k ≠ 14 ∧ k ≠ 15 ∧ k ≠ 18) : m_goes X i km se k = X k := by
  obtain ⟨h6, h7, h13, h14, h15, h18⟩ := h
  unfold m_goes
  rw [zu_row_ne _ _ _ h18]
  unfold mGo2
  split
  · rw [zu_row_ne _ _ _ h14, zu_row_ne _ _ _ h13, zu_row_ne _ _ _ h15]
    unfold mGo1
    rw [zu_row_ne _ _ _ h7, zu_row_ne _ _ _ h6]
  · unfold mGo1
    rw [zu_row_ne _ _ _ h7, zu_row_ne _ _ _ h6]
theorem zgo_keep (S : zS) (km se : Int32) {k : Nat} (h : k ≠ 6 ∧ k ≠ 7 ∧ k ≠ 13 ∧ k ≠ 14 ∧ k ≠ 15 ∧ k ≠ 18) : ∀ (n i : Nat) (X : zX), zgo S km se n i X k = X k := by
  intro n
  induction n with
  | zero => intro i X; rfl
  | succ n ih =>
    intro i X
    show (S.K i).foldl (fun Y q => zgo S km se n q Y) (m_goes X i km se) k = X k
    rw [zfold_keep (S := S) (fun Y q => ih q Y), m_goes_keep X i km se h]
