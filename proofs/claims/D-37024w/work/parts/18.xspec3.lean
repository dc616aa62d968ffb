/-! THE REFERENCE, AS FUNCTIONS, 3 -/
def mWt (X : zX) (k : Nat) : Nat := (X 27 k).toNatClampNeg
def mR (X : zX) (r : Nat) : Nat := (X 31 r).toNatClampNeg
/-- those that wait are parts; the roads hold parts -/
def MQw (X : zX) : Prop := ∀ k, k < mW X → X 27 k = nI (mWt X k) ∧ mWt X k < mN X
def MR (X : zX) : Prop := ∀ r, r < 3 → X 31 r = nI (mR X r) ∧ mR X r ≤ 4 ∧ ∀ k, k < mR X r → X 32 (4 * r + k) = nI ((X 32 (4 * r + k)).toNatClampNeg) ∧ (X 32 (4 * r + k)).toNatClampNeg < mN X
theorem mWt_w (X : zX) (k i : Nat) (v : Int32) (h : k ≠ 27) (p : Nat) : mWt (zu X k i v) p = mWt X p := by unfold mWt; rw [zu_n _ _ _ _ (fun q => h q.1.symm)]
theorem mR_w (X : zX) (k i : Nat) (v : Int32) (h : k ≠ 31) (p : Nat) : mR (zu X k i v) p = mR X p := by unfold mR; rw [zu_n _ _ _ _ (fun q => h q.1.symm)]
def mCm (X : zX) (p : Nat) (t : Int32) : Bool :=
  (decide (mW X < 8) && !mWs X (nI p) && decide (X 12 p = 0) && decide (¬ X 5 p = -2)) && !zany (fun k => decide (X 28 (mWt X k) = t)) (mW X)
def m_comes (X : zX) (x t : Int32) : Int32 × zX :=
  if ¬ mKc X x 0 = 0 then (0, zu X 0 0 (mKc X x 0))
  else if zin t 0 99 = false then (0, zu X 0 0 2)
  else if mCm X x.toNatClampNeg t = true then (nI (mW X + 1), zu (zu (zu (zu X 0 0 0) 27 (mW X) x) 28 x.toNatClampNeg t) 26 0 (nI (mW X + 1)))
  else (0, zu X 0 0 3)
/-- movesOf -/
def mSf (X : zX) (a b : Nat) : Bool := decide (X 30 a = X 30 b)
def mTf (X : zX) (a b : Nat) : Bool := mSf X a b && decide (a < b) && decide (¬ X 28 (mWt X b) ≤ X 28 (mWt X a))
def zmo (X : zX) : Nat → Nat → Nat → Int32
  | 0, _, su => nI su
  | k + 1, a, su => if 4 < zct (mSf X a) (mW X) then -1 else zmo X k (a + 1) (su + zct (mTf X a) (mW X))
def mMo (X : zX) : Int32 := zmo X (mW X) 0 0
/-- plans -/
def zdg : Nat → zX → Nat → zX
  | 0, X, _ => X
  | k + 1, X, l => zdg k (zu X 30 k (nI (l % 3))) (l / 3)
def zcb (Y : zX) : Nat → zX
  | 0 => Y
  | k + 1 => zu (zcb Y k) 29 k (Y 30 k)
def mPs1 (s : Int32 × zX) (w : Nat) : Int32 × zX :=
  let Y := zdg (mW s.2) s.2 w
  if ¬ mMo Y = -1 ∧ (s.1 = -1 ∨ ¬ s.1 ≤ mMo Y) then (mMo Y, zcb Y (mW Y)) else (s.1, Y)
def mPs (X : zX) : Nat → Int32 × zX
  | 0 => (-1, X)
  | n + 1 => mPs1 (mPs X n) n
def m_plans (X : zX) : Int32 × zX := mPs X (3 ^ mW X)
/-- only the plan's rows differ -/
def zPr (X Y : zX) : Prop := ∀ k, k ≠ 29 → k ≠ 30 → Y k = X k
theorem zPr.rf (X : zX) : zPr X X := fun _ _ _ => rfl
theorem zPr.tr {X Y Z : zX} (h : zPr X Y) (h2 : zPr Y Z) : zPr X Z := fun k a b => (h2 k a b).trans (h k a b)
theorem zPr.u (X : zX) {k i : Nat} {v : Int32} (h : k = 29 ∨ k = 30) : zPr X (zu X k i v) := fun j a b => zu_row_ne _ _ _ (fun q => by rcases h with e | e <;> omega)
theorem zPr.eW {X Y : zX} (h : zPr X Y) : mW Y = mW X := by unfold mW; rw [h 26 (by decide) (by decide)]
theorem zPr.eN {X Y : zX} (h : zPr X Y) : mN Y = mN X := by unfold mN; rw [h 1 (by decide) (by decide)]
theorem zPr.eI {X Y : zX} (h : zPr X Y) (hI : MH X) : MH Y := hI.cg (by rw [h 1 (by decide) (by decide)]) (h 2 (by decide) (by decide)) (h 5 (by decide) (by decide))
theorem zPr.eH {X Y : zX} (h : zPr X Y) (hW : X 26 0 = nI (mW X) ∧ mW X ≤ 8) : Y 26 0 = nI (mW Y) ∧ (mW Y) ≤ 8 := by
  rw [h.eW, h 26 (by decide) (by decide)]; exact hW
theorem zPr.eQ {X Y : zX} (h : zPr X Y) (hQ : MQw X) : MQw Y := by
  intro k hk
  rw [h.eW] at hk
  have e : mWt Y k = mWt X k := by unfold mWt; rw [h 27 (by decide) (by decide)]
  rw [e, h.eN, h 27 (by decide) (by decide)]
  exact hQ k hk
theorem zdg_pr : ∀ k X l, zPr X (zdg k X l) := by
  intro k
  induction k with
  | zero => intro X l; exact zPr.rf X
  | succ k ih => intro X l; exact (zPr.u X (Or.inr rfl)).tr (ih _ _)
theorem zcb_pr (Y : zX) : ∀ k, zPr Y (zcb Y k) := by
  intro k
  induction k with
  | zero => exact zPr.rf Y
  | succ k ih => exact ih.tr (zPr.u _ (Or.inl rfl))
theorem zcb_30 (Y : zX) (k : Nat) : zcb Y k 30 = Y 30 := by
  induction k with
  | zero => rfl
  | succ k ih => unfold zcb; rw [zu_row_ne _ _ _ (by decide), ih]
theorem mPs_pr (X : zX) : ∀ n, zPr X (mPs X n).2 := by
  intro n
  induction n with
  | zero => exact zPr.rf X
  | succ n ih =>
    unfold mPs mPs1
    dsimp only
    split
    · exact (ih.tr (zdg_pr _ _ _)).tr (zcb_pr _ _)
    · exact ih.tr (zdg_pr _ _ _)
/-- night -/
def mNg1 (Y : zX) (j : Nat) : zX := zu (zu (zu Y 32 (4 * (Y 29 j).toNatClampNeg + mR Y (Y 29 j).toNatClampNeg) (nI (mWt Y j))) 31 (Y 29 j).toNatClampNeg (nI (mR Y (Y 29 j).toNatClampNeg + 1))) 12 (mWt Y j) 1
def mNg (Y : zX) : Nat → zX
  | 0 => Y
  | j + 1 => mNg1 (mNg Y j) j
def m_night (X : zX) : Int32 × zX :=
  if mW X = 0 ∨ 0 < mR X 0 + mR X 1 + mR X 2 then (0, zu X 0 0 1)
  else ((m_plans (zu X 0 0 0)).1, zu (mNg (m_plans (zu X 0 0 0)).2 (mW X)) 26 0 0)
/-- what night needs of the plan -/
def mBst (P : zX) : Prop := (∀ k, k < mW P → P 29 k = nI ((P 29 k).toNatClampNeg) ∧ (P 29 k).toNatClampNeg < 3) ∧ ∀ r, r < 3 → zct (fun k => decide ((P 29 k).toNatClampNeg = r)) (mW P) ≤ 4
/-- out -/
def mTm (X : zX) (r k : Nat) : Int32 := X 28 (X 32 (4 * r + k)).toNatClampNeg
def zos (X : zX) (r k : Nat) (s : Option (Nat × Nat)) : Option (Nat × Nat) := match s with
  | none => some (r, k)
  | some q => if ¬ mTm X q.1 q.2 ≤ mTm X r k then some (r, k) else some q
def zo1 (X : zX) (r : Nat) (s : Option (Nat × Nat)) : Nat → Option (Nat × Nat)
  | 0 => s
  | k + 1 => zos X r k (zo1 X r s k)
def zo2 (X : zX) : Nat → Option (Nat × Nat)
  | 0 => none
  | r + 1 => zo1 X r (zo2 X r) (mR X r)
def zro (s : Option (Nat × Nat)) : Int32 := match s with | none => -1 | some q => nI q.1
def zpl (s : Option (Nat × Nat)) : Nat := match s with | none => 0 | some q => q.2
def zsh (X : zX) (r p : Nat) : Nat → zX
  | 0 => X
  | j + 1 => zu (zsh X r p j) 32 (4 * r + (p + j)) (zsh X r p j 32 (4 * r + (p + j) + 1))
def m_out (X : zX) : Int32 × zX := match zo2 X 3 with
  | none => (0, zu X 0 0 1)
  | some q => (nI (mR X q.1) - 1 - nI q.2, zu (zsh (zu (zu X 0 0 0) 12 (X 32 (4 * q.1 + q.2)).toNatClampNeg 0) q.1 q.2 (mR X q.1 - 1 - q.2)) 31 q.1 (nI (mR X q.1) - 1))
/-- what there is -/
def m_host (X : zX) (x : Int32) : Int32 × zX := if mIs X x = false then (0, zu X 0 0 1) else (X 5 x.toNatClampNeg, zu X 0 0 0)
def m_head (X : zX) (x : Int32) : Int32 × zX := if mIs X x = false then (0, zu X 0 0 1) else (nI (mHd X x.toNatClampNeg), zu X 0 0 0)
def m_life (X : zX) (x : Int32) : Int32 × zX := if mIs X x = false then (0, zu X 0 0 1) else (X 6 x.toNatClampNeg, zu X 0 0 0)
def mMf (X : zX) (x : Int32) (k : Nat) : Bool := decide (X 24 k = x)
def mMp (X : zX) (x : Int32) : Nat := zct (mMf X x) (mM X)
theorem mMp_w (X : zX) (k i : Nat) (v : Int32) (h : k ≠ 23) (h2 : k ≠ 24) (x : Int32) : mMp (zu X k i v) x = mMp X x := by
  have e : mMf (zu X k i v) x = mMf X x := by funext j; unfold mMf; rw [zu_n _ _ _ _ (fun q => h2 q.1.symm)]
  unfold mMp; rw [e, mM_w _ _ _ _ h]
def m_ofPart (X : zX) (x w : Int32) : Int32 × zX :=
  if mIs X x = false then (0, zu X 0 0 1)
  else if zin w 0 8 = false then (0, zu X 0 0 2)
  else (if ¬ 3 ≤ w then (if w = 0 then X 2 x.toNatClampNeg else if w = 1 then X 3 x.toNatClampNeg else X 4 x.toNatClampNeg)
    else if ¬ 6 ≤ w then (if w = 3 then X 6 x.toNatClampNeg else if w = 4 then X 7 x.toNatClampNeg else X 8 x.toNatClampNeg)
    else if w = 6 then (if X 9 x.toNatClampNeg = 0 then 0 else 1) else if w = 7 then (if X 10 x.toNatClampNeg = 0 then 0 else 1) else nI (mMp X x), zu X 0 0 0)
def mTg (X : zX) (x : Int32) (k a : Nat) : Bool := mMf X x a && decide (zct (mMf X x) a = k)
def mTr (X : zX) (x : Int32) (k : Nat) : Nat := (zfi (mTg X x k) (mM X) 0).getD 0
def m_trace (X : zX) (x v : Int32) : Int32 × zX :=
  if mIs X x = false ∨ zin v 0 (nI (mMp X x) - 1) = false then (0, zu X 0 0 1) else (X 25 (mTr X x v.toNatClampNeg), zu X 0 0 0)
def m_wheel (X : zX) (x w : Int32) : Int32 × zX :=
  if ¬ mKc X x 3 = 0 then (0, zu X 0 0 (mKc X x 3))
  else if zin w 0 2 = false then (0, zu X 0 0 2)
  else (if w = 0 then X 13 x.toNatClampNeg else if w = 1 then X 14 x.toNatClampNeg else if X 17 x.toNatClampNeg = 0 then -1 else X 16 x.toNatClampNeg, zu X 0 0 0)
def m_foretell (X : zX) (x km se : Int32) : Int32 × zX :=
  if ¬ mKc X x 3 = 0 then (0, zu X 0 0 (mKc X x 3))
  else if zin km 1 2000 = false ∨ zin se 0 3 = false then (0, zu X 0 0 2)
  else (if X 17 x.toNatClampNeg = 0 then -1 else if ¬ 0 < X 16 x.toNatClampNeg - 250 then 0 else (X 16 x.toNatClampNeg - 250) * 200 / (km * mFa se), zu X 0 0 0)
theorem mFa_nz {km se : Int32} (h : zin km 1 2000 = true) (h2 : zin se 0 3 = true) : ¬ km * mFa se = 0 := by
  obtain ⟨a1, a2⟩ := zin_t h
  obtain ⟨k, hk, rfl⟩ := zin_n (b := 3) rfl h2
  obtain ⟨j, hj, rfl⟩ := nI_of2 (n := 2000) (x := km) rfl (fun q => absurd (Int32.lt_of_lt_of_le q (show (0 : Int32) ≤ 1 by decide)) (Int32.not_lt.mpr a1)) a2
  have hj1 : 1 ≤ j := by
    have := Int32.le_iff_toInt_le.mp a1
    rw [nI_toInt (by omega)] at this
    have e : (1 : Int32).toInt = 1 := by decide
    omega
  have hf : ∃ f, mFa (nI k) = nI f ∧ 1 ≤ f ∧ f ≤ 3 := by
    have : ∀ k, k < 4 → ∃ f, f < 4 ∧ mFa (nI k) = nI f ∧ 1 ≤ f ∧ f ≤ 3 := by decide
    obtain ⟨f, -, h⟩ := this k (by omega)
    exact ⟨f, h⟩
  obtain ⟨f, e, f1, f3⟩ := hf
  rw [e, pk_mul]
  have h1 : 1 * 1 ≤ j * f := Nat.mul_le_mul hj1 f1
  have h3 : j * f ≤ 2000 * 3 := Nat.mul_le_mul hj f3
  exact nI_ne0 (by omega) (by omega)
def m_bars (X : zX) (x : Int32) : Int32 × zX := if ¬ mKc X x 0 = 0 then (0, zu X 0 0 (mKc X x 0)) else (mBo X x.toNatClampNeg / 100, zu X 0 0 0)
def m_barredBy (X : zX) (x : Int32) : Int32 × zX :=
  if ¬ mKc X x 0 = 0 then (0, zu X 0 0 (mKc X x 0)) else (if mBo X x.toNatClampNeg = 0 then -1 else mBo X x.toNatClampNeg - mBo X x.toNatClampNeg / 100 * 100, zu X 0 0 0)
def m_isRel (X : zX) (x : Int32) : Bool := decide (mKc X x 0 = 0) && decide (¬ X 11 x.toNatClampNeg = 0)
def m_plan (X : zX) : Int32 × zX := if mW X = 0 then (0, zu X 0 0 0) else m_plans (zu X 0 0 0)
def m_road (X : zX) (r k : Int32) : Int32 × zX :=
  if zin r 0 2 = false ∨ k < 0 then (0, zu X 0 0 1) else (if ¬ nI (mR X r.toNatClampNeg) ≤ k then X 32 (4 * r.toNatClampNeg + k.toNatClampNeg) else -1, zu X 0 0 0)
theorem zin_m {v : Int32} {n : Nat} (hn : n < 2 ^ 31) (h : zin v 0 (nI n - 1) = true) : ∃ k, k < n ∧ v = nI k := by
  obtain ⟨h1, h2⟩ := zin_t h
  cases n with
  | zero => exact absurd (Int32.le_trans h1 h2) (by decide)
  | succ n =>
    rw [nI_pred] at h2
    obtain ⟨j, hj, e⟩ := nI_of2 (nI_toInt (by omega)) (Int32.not_lt.mpr h1) h2
    exact ⟨j, by omega, e⟩
section ZL2
variable {p : Program} {l : Launch} {e : Env} {R : Room} {s : State} {m : MethodId} {args : Array Value} {below : List Frame} {meth : Method} {c : Code} {H : Heap} {locs : List Loc} {cells slots : Nat} {Q : State → Prop}
variable {cc : ByteArray} {pc : Nat} {ls : Array Slot} {rest : List Value} {tgt : Nat} {off : Int}
theorem zl_ifle0 {a : Nat} (hexec : p.tables.exec = Jvm.exec) (hb : c.code = cc) (ha : a < 2 ^ 31) (hdg : decode cc pc = .ok (.ifCond .le off, 3)) (ht : (pc : Int) + off = (tgt : Int))
    (kt : a = 0 → W p l e R s m args below meth c H locs cells slots Q (F0 m tgt ls rest)) (kf : 0 < a → W p l e R s m args below meth c H locs cells slots Q (F0 m (pc + 3) ls rest)) : W p l e R s m args below meth c H locs cells slots Q (F0 m pc ls (.int (nI a) :: rest)) :=
  lv_if_le (tgt := tgt) hexec hb hdg ht (fun h => kt (by have := (nI_leI ha (b := 0) (by decide)).mp h; omega)) (fun h => kf (Nat.pos_of_ne_zero (fun q => h (by rw [q]; decide))))
theorem zl_ifeq0 {a : Nat} (hexec : p.tables.exec = Jvm.exec) (hb : c.code = cc) (ha : a < 2 ^ 31) (hdg : decode cc pc = .ok (.ifCond .eq off, 3)) (ht : (pc : Int) + off = (tgt : Int))
    (kt : a = 0 → W p l e R s m args below meth c H locs cells slots Q (F0 m tgt ls rest)) (kf : 0 < a → W p l e R s m args below meth c H locs cells slots Q (F0 m (pc + 3) ls rest)) : W p l e R s m args below meth c H locs cells slots Q (F0 m pc ls (.int (nI a) :: rest)) :=
  lv_if_eq (tgt := tgt) hexec hb hdg ht (fun h => kt ((nI_eq ha (b := 0) (by decide)).mp h)) (fun h => kf (Nat.pos_of_ne_zero (fun q => h (by rw [q]; decide))))
theorem zl_ifne0 {a : Nat} (hexec : p.tables.exec = Jvm.exec) (hb : c.code = cc) (ha : a < 2 ^ 31) (hdg : decode cc pc = .ok (.ifCond .ne off, 3)) (ht : (pc : Int) + off = (tgt : Int))
    (kt : 0 < a → W p l e R s m args below meth c H locs cells slots Q (F0 m tgt ls rest)) (kf : a = 0 → W p l e R s m args below meth c H locs cells slots Q (F0 m (pc + 3) ls rest)) : W p l e R s m args below meth c H locs cells slots Q (F0 m pc ls (.int (nI a) :: rest)) :=
  lv_if_ne (tgt := tgt) hexec hb hdg ht (fun h => kt (Nat.pos_of_ne_zero (fun q => h (by rw [q]; decide)))) (fun h => kf ((nI_eq ha (b := 0) (by decide)).mp h))
end ZL2
theorem zdec (j : Nat) : nI (j + 1) - 1 + Int32.ofInt (-1) = nI j - 1 := by
  rw [nI_pred, show Int32.ofInt (-1) = -1 from by decide]
  exact (Int32.sub_eq_add_neg _ _).symm
theorem mNg_cg (P : zX) {k : Nat} (h1 : k ≠ 32) (h2 : k ≠ 31) (h3 : k ≠ 12) : ∀ j, mNg P j k = P k := by
  intro j
  induction j with
  | zero => rfl
  | succ j ih =>
    show mNg1 (mNg P j) j k = P k
    unfold mNg1
    rw [zu_row_ne _ _ _ h3, zu_row_ne _ _ _ h2, zu_row_ne _ _ _ h1, ih]
theorem zct_mono (f : Nat → Bool) {a b : Nat} (h : a ≤ b) : zct f a ≤ zct f b := by
  induction b with
  | zero => rw [show a = 0 by omega]; exact Nat.le_refl _
  | succ b ih =>
    by_cases q : a = b + 1
    · rw [q]; exact Nat.le_refl _
    · exact Nat.le_trans (ih (by omega)) (Nat.le_add_right _ _)
theorem mNg_R {P : zX} (hB : mBst P) (h0 : ∀ r, r < 3 → P 31 r = 0) : ∀ j, j ≤ mW P → ∀ r, r < 3 → mNg P j 31 r = nI (zct (fun k => decide ((P 29 k).toNatClampNeg = r)) j) := by
  intro j
  induction j with
  | zero => intro _ r hr; exact h0 r hr
  | succ j ih =>
    intro hj r hr
    have e29 : mNg P j 29 = P 29 := mNg_cg P (by decide) (by decide) (by decide) j
    have hd := hB.1 j (by omega)
    show mNg1 (mNg P j) j 31 r = _
    unfold mNg1
    rw [zu_n _ _ _ _ (by omega), e29]
    by_cases c : (P 29 j).toNatClampNeg = r
    · subst c
      have hm : mR (mNg P j) (P 29 j).toNatClampNeg = zct (fun k => decide ((P 29 k).toNatClampNeg = (P 29 j).toNatClampNeg)) j := by
        unfold mR
        rw [ih (by omega) _ hd.2]
        have := zct_le (fun k => decide ((P 29 k).toNatClampNeg = (P 29 j).toNatClampNeg)) j
        have := hB.2 _ hd.2
        have := zct_mono (fun k => decide ((P 29 k).toNatClampNeg = (P 29 j).toNatClampNeg)) (show j ≤ mW P by omega)
        exact nI_clamp (by omega)
      rw [zu_s, hm]
      simp [zct]
    · rw [zu_n _ _ _ _ (fun q => c q.2.symm), zu_n _ _ _ _ (by omega), ih (by omega) r hr]
      simp [zct, c]
theorem mNg_R4 {P : zX} (hB : mBst P) (h0 : ∀ r, r < 3 → P 31 r = 0) {j : Nat} (hj : j < mW P) : mNg P j 31 (P 29 j).toNatClampNeg = nI (mR (mNg P j) (P 29 j).toNatClampNeg) ∧ mR (mNg P j) (P 29 j).toNatClampNeg < 4 := by
  have hd := hB.1 j hj
  have e := mNg_R hB h0 j (by omega) _ hd.2
  have hl : zct (fun k => decide ((P 29 k).toNatClampNeg = (P 29 j).toNatClampNeg)) j < 4 := by
    have h1 := hB.2 _ hd.2
    have h2 := zct_mono (fun k => decide ((P 29 k).toNatClampNeg = (P 29 j).toNatClampNeg)) (show j + 1 ≤ mW P by omega)
    have h3 : zct (fun k => decide ((P 29 k).toNatClampNeg = (P 29 j).toNatClampNeg)) (j + 1) = zct (fun k => decide ((P 29 k).toNatClampNeg = (P 29 j).toNatClampNeg)) j + 1 := by simp [zct]
    omega
  have hm : mR (mNg P j) (P 29 j).toNatClampNeg = zct (fun k => decide ((P 29 k).toNatClampNeg = (P 29 j).toNatClampNeg)) j := by
    unfold mR
    rw [e]
    exact nI_clamp (by omega)
  rw [hm]
  exact ⟨e, hl⟩
theorem zo1_ok {X : zX} {r : Nat} {s : Option (Nat × Nat)} (hs : ∀ q, s = some q → q.1 ≤ r ∧ q.2 < mR X q.1) : ∀ k, k ≤ mR X r → ∀ q, zo1 X r s k = some q → q.1 ≤ r ∧ q.2 < mR X q.1 := by
  intro k
  induction k with
  | zero => intro _ q hq; exact hs q hq
  | succ k ih =>
    intro hk q hq
    have hq : zos X r k (zo1 X r s k) = some q := hq
    unfold zos at hq
    split at hq
    · cases hq; exact ⟨Nat.le_refl _, by show k < mR X r; omega⟩
    · next z hz =>
      split at hq
      · cases hq; exact ⟨Nat.le_refl _, by show k < mR X r; omega⟩
      · have hzq := Option.some.inj hq
        rw [hzq] at hz
        exact ih (by omega) q hz
theorem zo2_ok {X : zX} : ∀ r q, zo2 X r = some q → q.1 < r ∧ q.2 < mR X q.1 := by
  intro r
  induction r with
  | zero => intro q h; cases h
  | succ r ih =>
    intro q h
    have h2 := zo1_ok (X := X) (r := r) (s := zo2 X r) (fun z hz => ⟨Nat.le_of_lt (ih z hz).1, (ih z hz).2⟩) (mR X r) (Nat.le_refl _) q h
    exact ⟨by omega, h2.2⟩
theorem zsh_cg (X : zX) (r p : Nat) {k : Nat} (h : k ≠ 32) : ∀ j, zsh X r p j k = X k := by
  intro j
  induction j with
  | zero => rfl
  | succ j ih => unfold zsh; rw [zu_row_ne _ _ _ h, ih]
theorem zsh_hi (X : zX) (r p : Nat) : ∀ j i, 4 * r + (p + j) ≤ i → zsh X r p j 32 i = X 32 i := by
  intro j
  induction j with
  | zero => intro i _; rfl
  | succ j ih => intro i hi; unfold zsh; rw [zu_n _ _ _ _ (by omega)]; exact ih i (by omega)
theorem nI_nem1 {n : Nat} (h : n < 2 ^ 31) : ¬ nI n = -1 := by
  intro q
  have a := nI_toInt h
  rw [q] at a
  have : (-1 : Int32).toInt = -1 := by decide
  omega
