/-! barring: the system's tests are the model's -/
theorem zln5 (X : zX) : ∀ (L : List Nat), (∀ q ∈ L, ∃ k, k ≤ 4 ∧ X 2 q = nI k) → L.length = L.countP (fun q => decide (X 2 q = nI 0)) + L.countP (fun q => decide (X 2 q = nI 1)) + L.countP (fun q => decide (X 2 q = nI 2)) + L.countP (fun q => decide (X 2 q = nI 3)) + L.countP (fun q => decide (X 2 q = nI 4)) := by
  intro L
  induction L with
  | nil => intro _; rfl
  | cons a L ih =>
    intro h
    obtain ⟨k, hk, e⟩ := h a List.mem_cons_self
    have := ih (fun q hq => h q (List.mem_cons_of_mem _ hq))
    simp only [List.countP_cons, List.length_cons, e]
    rcases (show k = 0 ∨ k = 1 ∨ k = 2 ∨ k = 3 ∨ k = 4 by omega) with rfl | rfl | rfl | rfl | rfl
    · rw [show decide (nI 0 = nI 0) = true by decide, show decide (nI 0 = nI 1) = false by decide, show decide (nI 0 = nI 2) = false by decide, show decide (nI 0 = nI 3) = false by decide, show decide (nI 0 = nI 4) = false by decide]
      simp; omega
    · rw [show decide (nI 1 = nI 1) = true by decide, show decide (nI 1 = nI 0) = false by decide, show decide (nI 1 = nI 2) = false by decide, show decide (nI 1 = nI 3) = false by decide, show decide (nI 1 = nI 4) = false by decide]
      simp; omega
    · rw [show decide (nI 2 = nI 2) = true by decide, show decide (nI 2 = nI 0) = false by decide, show decide (nI 2 = nI 1) = false by decide, show decide (nI 2 = nI 3) = false by decide, show decide (nI 2 = nI 4) = false by decide]
      simp; omega
    · rw [show decide (nI 3 = nI 3) = true by decide, show decide (nI 3 = nI 0) = false by decide, show decide (nI 3 = nI 1) = false by decide, show decide (nI 3 = nI 2) = false by decide, show decide (nI 3 = nI 4) = false by decide]
      simp; omega
    · rw [show decide (nI 4 = nI 4) = true by decide, show decide (nI 4 = nI 0) = false by decide, show decide (nI 4 = nI 1) = false by decide, show decide (nI 4 = nI 2) = false by decide, show decide (nI 4 = nI 3) = false by decide]
      simp; omega
/-- a part's kids by kinds: their counts are bounded -/
theorem zBt.c5 {S : zS} {X : zX} (h : zBt S X) {i : Nat} (hi : i < mN X) : ∃ c : Nat → Nat, (∀ k, (S.K i).countP (fun q => decide (X 2 q = nI k)) = c k) ∧ (S.K i).length = c 0 + c 1 + c 2 + c 3 + c 4 ∧ ∀ k, k < 5 → c k ≤ (mPl (nI (mK X i)) (nI k)).toNatClampNeg := by
  refine ⟨fun k => (S.K i).countP (fun q => decide (X 2 q = nI k)), fun k => rfl, zln5 X _ (fun q hq => ?_), fun k hk => ?_⟩
  · obtain ⟨e, h4⟩ := h.1.2.1 q (h.hst hi hq).1
    exact ⟨_, h4, e⟩
  · rw [← (h.1.2.1 i hi).1]; exact h.2.2.2 i hi k hk
theorem zlt2 : ∀ c, c < 3 → ((nI c < 2) ↔ c < 2) := by decide
theorem zlt1 : ∀ c, c < 2 → ((nI c < 1) ↔ c < 1) := by decide
theorem zlt0 : ∀ c, c < 1 → ¬ (nI c < 0) := by decide
theorem zlk_he {S : zS} {X : zX} (h : zBt S X) {i : Nat} (hi : i < mN X) : zany (zlk S X i) 5 = mHe X i := by
  obtain ⟨c, hc, hl, hb⟩ := h.c5 hi
  obtain ⟨e2, h4⟩ := h.1.2.1 i hi
  have hz : zany (zlk S X i) 5 = (decide (nI (c 0) < mPl (X 2 i) (nI 0)) || decide (nI (c 1) < mPl (X 2 i) (nI 1)) || decide (nI (c 2) < mPl (X 2 i) (nI 2)) || decide (nI (c 3) < mPl (X 2 i) (nI 3)) || decide (nI (c 4) < mPl (X 2 i) (nI 4))) := by
    show (((((false || zlk S X i 0) || zlk S X i 1) || zlk S X i 2) || zlk S X i 3) || zlk S X i 4) = _
    unfold zlk
    rw [hc 0, hc 1, hc 2, hc 3, hc 4]; rfl
  have hm : mHe X i = if X 2 i = 2 then decide ((S.K i).length < 3) else decide (¬ 2 ≤ X 2 i) && decide ((S.K i).length < 2) := by
    unfold mHe; rw [h.ln hi]
  rw [hz, hm, e2]
  have b0 := hb 0 (by omega)
  have b1 := hb 1 (by omega)
  have b2 := hb 2 (by omega)
  have b3 := hb 3 (by omega)
  have b4 := hb 4 (by omega)
  generalize mK X i = k at *
  rcases (show k = 0 ∨ k = 1 ∨ k = 2 ∨ k = 3 ∨ k = 4 by omega) with rfl | rfl | rfl | rfl | rfl
  · rw [show (mPl (nI 0) (nI 0)).toNatClampNeg = 0 by decide] at b0
    rw [show (mPl (nI 0) (nI 1)).toNatClampNeg = 2 by decide] at b1
    rw [show (mPl (nI 0) (nI 2)).toNatClampNeg = 0 by decide] at b2
    rw [show (mPl (nI 0) (nI 3)).toNatClampNeg = 0 by decide] at b3
    rw [show (mPl (nI 0) (nI 4)).toNatClampNeg = 0 by decide] at b4
    rw [show mPl (nI 0) (nI 0) = 0 by decide, show mPl (nI 0) (nI 1) = 2 by decide, show mPl (nI 0) (nI 2) = 0 by decide, show mPl (nI 0) (nI 3) = 0 by decide, show mPl (nI 0) (nI 4) = 0 by decide, if_neg (by decide), hl, show decide (¬ (2 : Int32) ≤ nI 0) = true by decide]
    have z0 := zlt0 (c 0) (by omega)
    have z1 := zlt2 (c 1) (by omega)
    have z2 := zlt0 (c 2) (by omega)
    have z3 := zlt0 (c 3) (by omega)
    have z4 := zlt0 (c 4) (by omega)
    simp only [z0, z1, z2, z3, z4, decide_false, Bool.or_false, Bool.false_or, Bool.true_and]
    congr 1
    exact propext ⟨fun _ => by omega, fun _ => by omega⟩
  · rw [show (mPl (nI 1) (nI 0)).toNatClampNeg = 0 by decide] at b0
    rw [show (mPl (nI 1) (nI 1)).toNatClampNeg = 0 by decide] at b1
    rw [show (mPl (nI 1) (nI 2)).toNatClampNeg = 2 by decide] at b2
    rw [show (mPl (nI 1) (nI 3)).toNatClampNeg = 0 by decide] at b3
    rw [show (mPl (nI 1) (nI 4)).toNatClampNeg = 0 by decide] at b4
    rw [show mPl (nI 1) (nI 0) = 0 by decide, show mPl (nI 1) (nI 1) = 0 by decide, show mPl (nI 1) (nI 2) = 2 by decide, show mPl (nI 1) (nI 3) = 0 by decide, show mPl (nI 1) (nI 4) = 0 by decide, if_neg (by decide), hl, show decide (¬ (2 : Int32) ≤ nI 1) = true by decide]
    have z0 := zlt0 (c 0) (by omega)
    have z1 := zlt0 (c 1) (by omega)
    have z2 := zlt2 (c 2) (by omega)
    have z3 := zlt0 (c 3) (by omega)
    have z4 := zlt0 (c 4) (by omega)
    simp only [z0, z1, z2, z3, z4, decide_false, Bool.or_false, Bool.false_or, Bool.true_and]
    congr 1
    exact propext ⟨fun _ => by omega, fun _ => by omega⟩
  · rw [show (mPl (nI 2) (nI 0)).toNatClampNeg = 0 by decide] at b0
    rw [show (mPl (nI 2) (nI 1)).toNatClampNeg = 0 by decide] at b1
    rw [show (mPl (nI 2) (nI 2)).toNatClampNeg = 0 by decide] at b2
    rw [show (mPl (nI 2) (nI 3)).toNatClampNeg = 2 by decide] at b3
    rw [show (mPl (nI 2) (nI 4)).toNatClampNeg = 1 by decide] at b4
    rw [show mPl (nI 2) (nI 0) = 0 by decide, show mPl (nI 2) (nI 1) = 0 by decide, show mPl (nI 2) (nI 2) = 0 by decide, show mPl (nI 2) (nI 3) = 2 by decide, show mPl (nI 2) (nI 4) = 1 by decide, if_pos (by decide), hl]
    have z0 := zlt0 (c 0) (by omega)
    have z1 := zlt0 (c 1) (by omega)
    have z2 := zlt0 (c 2) (by omega)
    have z3 := zlt2 (c 3) (by omega)
    have z4 := zlt1 (c 4) (by omega)
    simp only [z0, z1, z2, z3, z4, decide_false, Bool.or_false, Bool.false_or]
    by_cases q3 : c 3 < 2
    · rw [decide_eq_true q3, Bool.true_or]
      exact (decide_eq_true (by omega)).symm
    · rw [decide_eq_false q3, Bool.false_or]
      congr 1
      exact propext ⟨fun _ => by omega, fun _ => by omega⟩
  · rw [show mPl (nI 3) (nI 0) = 0 by decide, show mPl (nI 3) (nI 1) = 0 by decide, show mPl (nI 3) (nI 2) = 0 by decide, show mPl (nI 3) (nI 3) = 0 by decide, show mPl (nI 3) (nI 4) = 0 by decide] at *
    rw [if_neg (by decide), show decide (¬ (2 : Int32) ≤ nI 3) = false by decide]
    rw [show (0 : Int32).toNatClampNeg = 0 by decide] at b0 b1 b2 b3 b4
    have z0 := zlt0 (c 0) (by omega)
    have z1 := zlt0 (c 1) (by omega)
    have z2 := zlt0 (c 2) (by omega)
    have z3 := zlt0 (c 3) (by omega)
    have z4 := zlt0 (c 4) (by omega)
    simp only [z0, z1, z2, z3, z4, decide_false, Bool.or_false, Bool.false_and]
  · rw [show mPl (nI 4) (nI 0) = 0 by decide, show mPl (nI 4) (nI 1) = 0 by decide, show mPl (nI 4) (nI 2) = 0 by decide, show mPl (nI 4) (nI 3) = 0 by decide, show mPl (nI 4) (nI 4) = 0 by decide] at *
    rw [if_neg (by decide), show decide (¬ (2 : Int32) ≤ nI 4) = false by decide]
    rw [show (0 : Int32).toNatClampNeg = 0 by decide] at b0 b1 b2 b3 b4
    have z0 := zlt0 (c 0) (by omega)
    have z1 := zlt0 (c 1) (by omega)
    have z2 := zlt0 (c 2) (by omega)
    have z3 := zlt0 (c 3) (by omega)
    have z4 := zlt0 (c 4) (by omega)
    simp only [z0, z1, z2, z3, z4, decide_false, Bool.or_false, Bool.false_and]
/-- kids of a wheelset or a motor: none; the others by their kinds -/
theorem zBt.leaf {S : zS} {X : zX} (h : zBt S X) {i : Nat} (hi : i < mN X) (hk : 3 ≤ mK X i) : S.K i = [] := by
  obtain ⟨c, hc, hl, hb⟩ := h.c5 hi
  have h4 := (h.1.2.1 i hi).2
  have : ∀ k, k < 5 → 3 ≤ k → ∀ j, j < 5 → (mPl (nI k) (nI j)).toNatClampNeg = 0 := by decide
  have h0 := this (mK X i) (by omega) hk
  have b0 := hb 0 (by omega)
  have b1 := hb 1 (by omega)
  have b2 := hb 2 (by omega)
  have b3 := hb 3 (by omega)
  have b4 := hb 4 (by omega)
  rw [h0 0 (by omega)] at b0
  rw [h0 1 (by omega)] at b1
  rw [h0 2 (by omega)] at b2
  rw [h0 3 (by omega)] at b3
  rw [h0 4 (by omega)] at b4
  exact List.length_eq_zero_iff.mp (by omega)
theorem mPl_k0 : ∀ a, a < 5 → ∀ b, b < 5 → ¬ mPl (nI a) (nI b) = 0 → (b = a + 1 ∧ a < 3) ∨ (b = a + 2 ∧ a = 2) := by decide
theorem mPl_k (a : Nat) (ha : a < 5) (b : Nat) (hb : b < 5) (h : ¬ mPl (nI a) (nI b) = 0) : (a = 0 ∧ b = 1) ∨ (a = 1 ∧ b = 2) ∨ (a = 2 ∧ b = 3) ∨ (a = 2 ∧ b = 4) := by
  have := mPl_k0 a ha b hb h
  omega
theorem zBt.kid {S : zS} {X : zX} (h : zBt S X) {i q : Nat} (hi : i < mN X) (hq : q ∈ S.K i) : (mK X i = 0 ∧ mK X q = 1) ∨ (mK X i = 1 ∧ mK X q = 2) ∨ (mK X i = 2 ∧ mK X q = 3) ∨ (mK X i = 2 ∧ mK X q = 4) := by
  obtain ⟨h1, h2, h3, h4⟩ := h.hst hi hq
  have := h.2.1 q h1 h4
  rw [h3, (h.1.2.1 i hi).1, (h.1.2.1 q h1).1] at this
  exact mPl_k _ (by have := (h.1.2.1 i hi).2; omega) _ (by have := (h.1.2.1 q h1).2; omega) this
