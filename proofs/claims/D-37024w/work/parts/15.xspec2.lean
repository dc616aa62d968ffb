/-! THE REFERENCE, AS FUNCTIONS, 2 -/
def zwo (X : zX) (h : Int32) (b : Bool) : Nat → Int32
  | 0 => -1
  | j + 1 => if X 5 j = h ∧ X 2 j = 3 ∧ (b = true ∨ zwo X h b j = -1) then nI j else zwo X h b j
def mWo (X : zX) (h : Int32) (b : Bool) : Int32 := zwo X h b (mN X)
theorem zwo_s (X : zX) (h : Int32) (b : Bool) : ∀ j, j ≤ 60 → 0 < zct (mIf X h 3) j → ∃ a, a < j ∧ zwo X h b j = nI a := by
  intro j
  induction j with
  | zero => intro _ h; exact absurd h (Nat.lt_irrefl 0)
  | succ j ih =>
    intro hj h1
    unfold zwo
    by_cases c : X 5 j = h ∧ X 2 j = 3 ∧ (b = true ∨ zwo X h b j = -1)
    · rw [if_pos c]; exact ⟨j, by omega, rfl⟩
    · rw [if_neg c]
      have h2 : 0 < zct (mIf X h 3) j := by
        unfold zct at h1
        by_cases q : mIf X h 3 j = true
        · by_cases z : 0 < zct (mIf X h 3) j
          · exact z
          · exfalso
            have z0 : zct (mIf X h 3) j = 0 := by omega
            have hw : zwo X h b j = -1 := by
              clear ih h1 q c z hj
              induction j with
              | zero => rfl
              | succ i ihi =>
                unfold zct at z0
                have hq : ¬ mIf X h 3 i = true := fun q => by rw [if_pos q] at z0; omega
                have hi : zct (mIf X h 3) i = 0 := by omega
                unfold zwo
                rw [if_neg, ihi hi]
                intro k
                exact hq (by simp [mIf, k.1, k.2.1])
            simp [mIf] at q
            exact c ⟨q.1, q.2, Or.inr hw⟩
        · rw [if_neg q] at h1; omega
      obtain ⟨a, h3, h4⟩ := ih (by omega) h2
      exact ⟨a, by omega, h4⟩
theorem mWo_s {X : zX} (hI : MH X) (h : Int32) (b : Bool) (c : 0 < mIn X h 3) : ∃ a, a < mN X ∧ mWo X h b = nI a := zwo_s X h b _ hI.1.2 c
def m_trues (X : zX) (w : Nat) : Int32 × zX := (2 * (300 - X 14 w), zu (zu X 13 w (X 13 w - 2 * (300 - X 14 w))) 14 w 300)
def mTu1 (X : zX) (a b : Nat) : zX := (m_trues (m_trues X a).2 b).2
def mTuL (X : zX) (a b : Nat) : Int32 := if mTu1 X a b 13 b ≤ mTu1 X a b 13 a then mTu1 X a b 13 b else mTu1 X a b 13 a
def mTu (X : zX) (a b : Nat) : Int32 × zX :=
  ((m_trues X a).1 + (m_trues (m_trues X a).2 b).1 + (mTu1 X a b 13 a - mTuL X a b + mTu1 X a b 13 b - mTuL X a b), zu (zu (mTu1 X a b) 13 a (mTuL X a b)) 13 b (mTuL X a b))
def m_turn (X : zX) (x : Int32) : Int32 × zX :=
  if ¬ mKc X x 2 = 0 then (0, zu X 0 0 (mKc X x 2))
  else if ¬ 2 ≤ mIn X x 3 ∨ ¬ X 12 (mHd X x.toNatClampNeg) = 0 then (0, zu X 0 0 3)
  else mTu (zu X 0 0 0) (mWo X x false).toNatClampNeg (mWo X x true).toNatClampNeg
def m_gate (X : zX) (x e : Int32) : Int32 × zX :=
  if ¬ mKc X x 3 = 0 then (0, zu X 0 0 (mKc X x 3))
  else if zin e (-5) 5 = false then (0, zu X 0 0 2)
  else (X 14 x.toNatClampNeg + e, zu (zu (zu X 0 0 0) 16 x.toNatClampNeg (X 14 x.toNatClampNeg + e)) 17 x.toNatClampNeg 1)
def m_examine (X : zX) (x : Int32) : Int32 × zX :=
  if mIs X x = false then (0, zu X 0 0 1)
  else if ¬ X 21 (mK X x.toNatClampNeg) ≤ 0 ∧ ¬ X 7 x.toNatClampNeg < X 21 (mK X x.toNatClampNeg) - X 22 (mK X x.toNatClampNeg) ∧ ¬ X 5 x.toNatClampNeg = -2 ∧ X 12 (mHd X x.toNatClampNeg) = 0
  then (X 7 x.toNatClampNeg, zu (zu (zu X 0 0 0) 7 x.toNatClampNeg 0) 8 x.toNatClampNeg 0) else (0, zu X 0 0 2)
def m_waive (X : zX) (x km : Int32) : zX :=
  if mIs X x = false then zu X 0 0 1
  else if zin km 1 999 = false then zu X 0 0 2
  else if X 21 (mK X x.toNatClampNeg) = 0 ∨ ¬ X 8 x.toNatClampNeg ≤ 0 then zu X 0 0 3
  else zu (zu X 0 0 0) 8 x.toNatClampNeg km
def m_flaw (X : zX) (x sz : Int32) : Int32 × zX :=
  if mIs X x = false then (0, zu X 0 0 1)
  else if X 2 x.toNatClampNeg < 3 ∨ zin sz 1 99 = false then (0, zu X 0 0 2)
  else (X 18 x.toNatClampNeg, zu (zu (zu X 0 0 0) 18 x.toNatClampNeg sz) 19 x.toNatClampNeg (X 6 x.toNatClampNeg))
def m_holds (X : zX) (p : Nat) : zX := m_ends (zu X 9 p 1) p
def m_look (X : zX) (x : Int32) (b : Bool) : Int32 × zX :=
  if mIs X x = false then (0, zu X 0 0 1)
  else if X 5 x.toNatClampNeg = -2 ∨ ¬ X 12 (mHd X x.toNatClampNeg) = 0 ∨ (b = true ∧ ¬ X 5 x.toNatClampNeg = -1) then (0, zu X 0 0 2)
  else if ¬ X 18 x.toNatClampNeg < (if b = true then 3 else 10) then (X 18 x.toNatClampNeg, m_holds (zu X 0 0 0) x.toNatClampNeg)
  else (0, zu (zu X 0 0 0) 10 x.toNatClampNeg (if ¬ X 10 x.toNatClampNeg = 0 ∧ b = false then 1 else 0))
def m_clear (X : zX) (x : Int32) : Int32 × zX :=
  if mIs X x = false then (0, zu X 0 0 1)
  else if X 9 x.toNatClampNeg = 0 ∨ ¬ X 12 (mHd X x.toNatClampNeg) = 0 then (0, zu X 0 0 2)
  else (X 18 x.toNatClampNeg, zu (zu (zu X 0 0 0) 9 x.toNatClampNeg 0) 18 x.toNatClampNeg 0)
def zrc (X : zX) (a : Int32) : Nat → Nat × zX
  | 0 => (0, X)
  | j + 1 => if X 3 j = a ∧ ¬ X 5 j = -2 ∧ (zrc X a j).2 10 j = 0 then ((zrc X a j).1 + 1, m_ends (zu (zrc X a j).2 10 j 1) j) else zrc X a j
theorem zrc_cg (X : zX) (a : Int32) {k : Nat} (h : k ≠ 10) (h2 : k ≠ 11) : ∀ j, (zrc X a j).2 k = X k := by
  intro j
  induction j with
  | zero => rfl
  | succ j ih =>
    unfold zrc
    split
    · show m_ends _ _ k = X k
      unfold m_ends
      rw [zu_row_ne _ _ _ h2, zu_row_ne _ _ _ h, ih]
    · exact ih
theorem zrc_b (X : zX) (a : Int32) (hz : ∀ p, X 10 p = 0 ∨ X 10 p = 1) : ∀ j p, (zrc X a j).2 10 p = 0 ∨ (zrc X a j).2 10 p = 1 := by
  intro j
  induction j with
  | zero => exact hz
  | succ j ih =>
    intro p
    unfold zrc
    split
    · show m_ends (zu (zrc X a j).2 10 j 1) j 10 p = 0 ∨ m_ends (zu (zrc X a j).2 10 j 1) j 10 p = 1
      unfold m_ends
      rw [zu_n _ _ _ _ (fun q => absurd q.1 (by decide))]
      unfold zu
      split
      · exact Or.inr rfl
      · exact ih p
    · exact ih p
theorem MH.rc {X : zX} (hI : MH X) (a : Int32) (j : Nat) : MH (zrc X a j).2 := hI.cg (by rw [zrc_cg X a (by decide) (by decide)]) (zrc_cg X a (by decide) (by decide) j) (zrc_cg X a (by decide) (by decide) j)
theorem mN_rc (X : zX) (a : Int32) (j : Nat) : mN (zrc X a j).2 = mN X := by unfold mN; rw [zrc_cg X a (by decide) (by decide)]
theorem zrc_n (X : zX) (a : Int32) : ∀ j, (zrc X a j).1 ≤ j := by
  intro j
  induction j with
  | zero => exact Nat.le_refl 0
  | succ j ih =>
    unfold zrc
    split
    · show (zrc X a j).1 + 1 ≤ j + 1
      omega
    · omega
def m_recall (X : zX) (a : Int32) : Int32 × zX :=
  if zin a 0 9 = false then (0, zu X 0 0 1) else (nI (zrc (zu X 0 0 0) a (mN X)).1, (zrc (zu X 0 0 0) a (mN X)).2)
/-- what bars -/
def mHe (X : zX) (q : Nat) : Bool := if X 2 q = 2 then decide (mIn X (nI q) (-1) < 3) else decide (¬ 2 ≤ X 2 q) && decide (mIn X (nI q) (-1) < 2)
def mWn (X : zX) (q : Nat) : Bool := decide (X 2 q = 3) && (decide (X 13 q < 8500) || decide (¬ 250 ≤ X 14 q))
def mAi (X : zX) (q j : Nat) : Bool := decide (X 2 j = 3) && decide (¬ X 5 j < 0) && (decide (X 5 j = nI q) || decide (X 5 (mH X j) = nI q))
def zap (X : zX) (q : Nat) : Nat → Int32 × Int32
  | 0 => (1000000, -1000000)
  | j + 1 => (if mAi X q j = true ∧ ¬ (zap X q j).1 ≤ X 13 j then X 13 j else (zap X q j).1, if mAi X q j = true ∧ ¬ X 13 j ≤ (zap X q j).2 then X 13 j else (zap X q j).2)
def mAp (X : zX) (q : Nat) : Int32 := (zap X q (mN X)).2 - (zap X q (mN X)).1
def mDu (X : zX) (q : Nat) : Bool := decide (¬ X 21 (mK X q) ≤ 0) && decide (¬ X 7 q ≤ X 21 (mK X q) + X 8 q)
def mBb (X : zX) (q r : Nat) : Bool :=
  if r = 1 then mHe X q else if r = 2 then decide (¬ X 9 q = 0) else if r = 3 then decide (¬ X 10 q = 0)
  else if r = 4 then decide (¬ X 20 (mK X q) ≤ 0) && decide (¬ X 6 q ≤ X 20 (mK X q))
  else if r = 5 then mWn X q
  else if r = 6 then (decide (X 2 q = 2) && decide (20 < mAp X q)) || (decide (X 2 q = 1) && decide (¬ mAp X q ≤ 60))
  else mDu X q
/-- the first from j on, of k, that is so -/
def zfi (f : Nat → Bool) : Nat → Nat → Option Nat
  | 0, _ => none
  | k + 1, j => if f j = true then some j else zfi f k (j + 1)
def zbo (X : zX) (t : Nat) : Nat → Nat → Int32
  | 0, _ => 0
  | k + 1, r => match zfi (fun p => mIi X p t && mBb X p r) (mN X) 0 with
    | some p => nI (100 * r + p)
    | none => zbo X t k (r + 1)
def mBo (X : zX) (t : Nat) : Int32 := zbo X t 7 1
def m_release (X : zX) (x : Int32) : Int32 × zX :=
  if ¬ mKc X x 0 = 0 then (0, zu X 0 0 (mKc X x 0))
  else (mBo X x.toNatClampNeg / 100, zu (zu X 0 0 0) 11 x.toNatClampNeg (if mBo X x.toNatClampNeg / 100 = 0 then 1 else 0))
theorem mHe_w (X : zX) (k i : Nat) (v : Int32) (h1 : k ≠ 1) (h2 : k ≠ 2) (h5 : k ≠ 5) (q : Nat) : mHe (zu X k i v) q = mHe X q := by
  unfold mHe; rw [mIn_w _ _ _ _ h1 h2 h5, zu_n _ _ _ _ (fun q => h2 q.1.symm)]
theorem mBo_w0 (X : zX) (i : Nat) (v : Int32) (t : Nat) : mBo (zu X 0 i v) t = mBo X t := by
  have e : ∀ k, k ≠ 0 → zu X 0 i v k = X k := fun k h => zu_row_ne _ _ _ h
  have e0 : mN (zu X 0 i v) = mN X := mN_w _ _ _ _ (by decide)
  have e1 : mIn (zu X 0 i v) = mIn X := by funext a b; exact mIn_w _ _ _ _ (by decide) (by decide) (by decide) a b
  have e2 : mHe (zu X 0 i v) = mHe X := by funext q; exact mHe_w _ _ _ _ (by decide) (by decide) (by decide) q
  have e3 : mH (zu X 0 i v) = mH X := by funext q; exact mH_w _ _ _ _ (by decide) q
  have e4 : mK (zu X 0 i v) = mK X := by funext q; exact mK_w _ _ _ _ (by decide) q
  have e5 : mAi (zu X 0 i v) = mAi X := by funext q j; unfold mAi; rw [e 2 (by decide), e 5 (by decide), e3]
  have e6 : ∀ q j, zap (zu X 0 i v) q j = zap X q j := by
    intro q j
    induction j with
    | zero => rfl
    | succ j ih => unfold zap; rw [ih, e5, e 13 (by decide)]
  have e7 : mAp (zu X 0 i v) = mAp X := by funext q; unfold mAp; rw [e6, e0]
  have e8 : mBb (zu X 0 i v) = mBb X := by
    funext q r
    unfold mBb mWn mDu
    rw [e2, e7, e4, e 9 (by decide), e 10 (by decide), e 20 (by decide), e 6 (by decide), e 2 (by decide), e 13 (by decide), e 14 (by decide), e 21 (by decide), e 7 (by decide), e 8 (by decide)]
  have e9 : mIi (zu X 0 i v) = mIi X := by funext p t; exact mIi_w _ _ _ _ (by decide) p t
  have e10 : ∀ k r, zbo (zu X 0 i v) t k r = zbo X t k r := by
    intro k
    induction k with
    | zero => intro r; rfl
    | succ k ih => intro r; unfold zbo; rw [e0, e8, e9, ih]
  exact e10 7 1
theorem zwo_w0 (X : zX) (i : Nat) (v : Int32) (h : Int32) (b : Bool) (j : Nat) : zwo (zu X 0 i v) h b j = zwo X h b j := by
  induction j with
  | zero => rfl
  | succ j ih => unfold zwo; rw [ih, zu_row_ne X i v (show (5 : Nat) ≠ 0 by decide), zu_row_ne X i v (show (2 : Nat) ≠ 0 by decide)]
theorem mIn_le (X : zX) (h k : Int32) : mIn X h k ≤ mN X := zct_le _ _
theorem zfi_n {f : Nat → Bool} {k j : Nat} (h : f j = false) : zfi f (k + 1) j = zfi f k (j + 1) := by
  conv => lhs; unfold zfi
  rw [if_neg (by rw [h]; decide)]
