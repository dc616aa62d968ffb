/-! THE REFERENCE, AS FUNCTIONS of its state -/
def zin (v lo hi : Int32) : Bool := decide (lo ≤ v ∧ v ≤ hi)
theorem zin_t {v lo hi : Int32} (h : zin v lo hi = true) : lo ≤ v ∧ v ≤ hi := of_decide_eq_true h
theorem zin_f {v lo hi : Int32} (h : zin v lo hi = false) : ¬ (lo ≤ v ∧ v ≤ hi) := of_decide_eq_false h
/-- a number between 0 and hi -/
theorem zin_n {v hi : Int32} {b : Nat} (hb : hi.toInt = (b : Int)) (h : zin v 0 hi = true) : ∃ k : Nat, k ≤ b ∧ v = nI k := by
  obtain ⟨h1, h2⟩ := zin_t h
  obtain ⟨j, hj, e⟩ := nI_of2 hb (Int32.not_lt.mpr h1) h2
  exact ⟨j, hj, e⟩
/-- the number in a cell -/
def mN (X : zX) : Nat := (X 1 0).toNatClampNeg
def mK (X : zX) (p : Nat) : Nat := (X 2 p).toNatClampNeg
def mH (X : zX) (p : Nat) : Nat := (X 5 p).toNatClampNeg
def mM (X : zX) : Nat := (X 23 0).toNatClampNeg
def mW (X : zX) : Nat := (X 26 0).toNatClampNeg
/-- the parts and their tree -/
def MH (X : zX) : Prop := (X 1 0 = nI (mN X) ∧ mN X ≤ 60) ∧ (∀ p, p < mN X → X 2 p = nI (mK X p) ∧ mK X p ≤ 4) ∧ (∀ p, p < mN X → X 5 p = -1 ∨ X 5 p = -2 ∨ (X 5 p = nI (mH X p) ∧ mH X p < mN X ∧ mK X (mH X p) < mK X p))
theorem MH.cg {X Y : zX} (h : MH X) (h1 : Y 1 0 = X 1 0) (h2 : Y 2 = X 2) (h5 : Y 5 = X 5) : MH Y := by
  have e1 : mN Y = mN X := by unfold mN; rw [h1]
  have e2 : ∀ p, mK Y p = mK X p := fun p => by unfold mK; rw [h2]
  have e3 : ∀ p, mH Y p = mH X p := fun p => by unfold mH; rw [h5]
  obtain ⟨a, b, c⟩ := h
  refine ⟨by rw [e1, h1]; exact a, fun p hp => ?_, fun p hp => ?_⟩
  · rw [e1] at hp; rw [e2, h2]; exact b p hp
  · rw [e1] at hp; simp only [e1, e2, e3, h5]; exact c p hp
theorem MH.w {X : zX} (h : MH X) (k i : Nat) (v : Int32) (h1 : k ≠ 1) (h2 : k ≠ 2) (h5 : k ≠ 5) : MH (zu X k i v) :=
  h.cg (zu_n _ _ _ _ (fun q => h1 q.1.symm)) (zu_row_ne _ _ _ (Ne.symm h2)) (zu_row_ne _ _ _ (Ne.symm h5))
/-- isPart, kindCode -/
def mIs (X : zX) (x : Int32) : Bool := zin x 0 (X 1 0 - 1)
theorem mIs_t {X : zX} {x : Int32} (hI : MH X) (h : mIs X x = true) : ∃ p, p < mN X ∧ x = nI p := by
  obtain ⟨h1, h2⟩ := zin_t h
  rw [hI.1.1] at h2
  have hn := hI.1.2
  cases hm : mN X with
  | zero =>
    rw [hm] at h2
    exact absurd (Int32.le_trans h1 h2) (by decide)
  | succ n =>
    rw [hm] at h2 hn
    rw [nI_pred] at h2
    obtain ⟨j, hj, e⟩ := nI_of2 (nI_toInt (by omega)) (Int32.not_lt.mpr h1) h2
    exact ⟨j, by omega, e⟩
theorem mIs_n {X : zX} {p : Nat} (hI : MH X) (h : p < mN X) : mIs X (nI p) = true := by
  have hn := hI.1.2
  obtain ⟨n, hm⟩ : ∃ n, mN X = n + 1 := ⟨mN X - 1, by omega⟩
  refine decide_eq_true ⟨nI_pos' (by omega), ?_⟩
  rw [hI.1.1, hm, nI_pred]
  exact nI_le (by omega) (by omega)
def mKc (X : zX) (x k : Int32) : Int32 := if mIs X x = false then 1 else if X 2 x.toNatClampNeg = k then 0 else 2
theorem mKc_c {X : zX} (hI : MH X) (x k : Int32) : (mIs X x = false ∧ mKc X x k = 1) ∨ (∃ p, p < mN X ∧ x = nI p ∧ ¬ X 2 p = k ∧ mKc X x k = 2) ∨ (∃ p, p < mN X ∧ x = nI p ∧ X 2 p = k ∧ mKc X x k = 0) := by
  cases h : mIs X x with
  | false => exact Or.inl ⟨rfl, by unfold mKc; rw [if_pos h]⟩
  | true =>
    obtain ⟨p, hp, rfl⟩ := mIs_t hI h
    have hc := hI.1.2
    by_cases q : X 2 p = k
    · exact Or.inr (Or.inr ⟨p, hp, rfl, q, by unfold mKc; rw [if_neg (by rw [h]; decide), nI_clamp (by omega), if_pos q]⟩)
    · exact Or.inr (Or.inl ⟨p, hp, rfl, q, by unfold mKc; rw [if_neg (by rw [h]; decide), nI_clamp (by omega), if_neg q]⟩)
/-- part, limits -/
def m_part (X : zX) (k a d : Int32) : Int32 × zX :=
  if zin k 0 4 = false ∨ zin a 0 9 = false ∨ zin d 0 3 = false then (0, zu X 0 0 1)
  else if mN X = 60 then (0, zu X 0 0 2)
  else (nI (mN X), zu (zu (zu (zu (zu (zu (zu (zu X 0 0 0) 2 (mN X) k) 3 (mN X) a) 4 (mN X) d) 5 (mN X) (-1)) 13 (mN X) 9000) 14 (mN X) 300) 1 0 (nI (mN X + 1)))
def m_limits (X : zX) (k a b d : Int32) : Int32 × zX :=
  if zin k 0 4 = true ∧ zin a 0 99999 = true ∧ zin b 0 99999 = true ∧ zin d 0 99999 = true
  then (X 20 k.toNatClampNeg, zu (zu (zu (zu X 0 0 0) 20 k.toNatClampNeg a) 21 k.toNatClampNeg b) 22 k.toNatClampNeg d) else (0, zu X 0 0 1)
/-- headOf and what it gives -/
def mHf (X : zX) : Nat → Nat → Nat
  | 0, p => p
  | k + 1, p => if X 5 p < 0 then p else mHf X k (mH X p)
def mHd (X : zX) (p : Nat) : Nat := mHf X 5 p
theorem mHf_cg {X Y : zX} (h5 : Y 5 = X 5) : ∀ k p, mHf Y k p = mHf X k p := by
  intro k
  induction k with
  | zero => intro p; rfl
  | succ k ih => intro p; unfold mHf; rw [h5, ih]; unfold mH; rw [h5]
theorem mHd_cg {X Y : zX} (h5 : Y 5 = X 5) (p : Nat) : mHd Y p = mHd X p := mHf_cg h5 5 p
theorem mHd_w (X : zX) (k i : Nat) (v : Int32) (h5 : k ≠ 5) (p : Nat) : mHd (zu X k i v) p = mHd X p := mHd_cg (zu_row_ne _ _ _ (Ne.symm h5)) p
theorem MH.host {X : zX} (h : MH X) {p : Nat} (hp : p < mN X) (hn : ¬ X 5 p < 0) : X 5 p = nI (mH X p) ∧ mH X p < mN X ∧ mK X (mH X p) < mK X p := by
  rcases h.2.2 p hp with e | e | e
  · exact absurd (by rw [e]; decide) hn
  · exact absurd (by rw [e]; decide) hn
  · exact e
theorem mHf_lt {X : zX} (hI : MH X) : ∀ k p, p < mN X → mHf X k p < mN X := by
  intro k
  induction k with
  | zero => intro p hp; exact hp
  | succ k ih =>
    intro p hp
    unfold mHf
    split
    · exact hp
    · next c => exact ih _ (hI.host hp c).2.1
theorem mHd_lt {X : zX} (hI : MH X) {p : Nat} (hp : p < mN X) : mHd X p < mN X := mHf_lt hI 5 p hp
def mIi (X : zX) (p t : Nat) : Bool := (decide (¬ X 5 p = -2) && decide (mHd X p = t)) || decide (p = t)
def mPl (h k : Int32) : Int32 := if h = 2 then (if k = 3 then 2 else if k = 4 then 1 else 0) else if (h = 0 ∨ h = 1) ∧ k = h + 1 then 2 else 0
/-- how many of the first n are so -/
def zct (f : Nat → Bool) : Nat → Nat
  | 0 => 0
  | n + 1 => zct f n + (if f n = true then 1 else 0)
theorem zct_le (f : Nat → Bool) : ∀ n, zct f n ≤ n
  | 0 => Nat.le_refl 0
  | n + 1 => by
    have := zct_le f n
    unfold zct
    split <;> omega
def mIf (X : zX) (h k : Int32) (p : Nat) : Bool := decide (X 5 p = h) && (decide (k = -1) || decide (X 2 p = k))
def mIn (X : zX) (h k : Int32) : Nat := zct (mIf X h k) (mN X)
def m_moves (X : zX) (p : Nat) (to : Int32) : zX := zu (zu (zu (zu X 5 p to) 24 (mM X) (nI p)) 25 (mM X) to) 23 0 (nI (mM X + 1))
def m_ends (X : zX) (p : Nat) : zX := zu X 11 (mHd X p) 0
theorem mN_w (X : zX) (k i : Nat) (v : Int32) (h : k ≠ 1) : mN (zu X k i v) = mN X := by unfold mN; rw [zu_n _ _ _ _ (fun q => h q.1.symm)]
theorem mM_w (X : zX) (k i : Nat) (v : Int32) (h : k ≠ 23) : mM (zu X k i v) = mM X := by unfold mM; rw [zu_n _ _ _ _ (fun q => h q.1.symm)]
theorem mW_w (X : zX) (k i : Nat) (v : Int32) (h : k ≠ 26) : mW (zu X k i v) = mW X := by unfold mW; rw [zu_n _ _ _ _ (fun q => h q.1.symm)]
theorem mK_w (X : zX) (k i : Nat) (v : Int32) (h : k ≠ 2) (p : Nat) : mK (zu X k i v) p = mK X p := by unfold mK; rw [zu_n _ _ _ _ (fun q => h q.1.symm)]
theorem mH_w (X : zX) (k i : Nat) (v : Int32) (h : k ≠ 5) (p : Nat) : mH (zu X k i v) p = mH X p := by unfold mH; rw [zu_n _ _ _ _ (fun q => h q.1.symm)]
theorem mIs_w (X : zX) (k i : Nat) (v : Int32) (h : k ≠ 1) (x : Int32) : mIs (zu X k i v) x = mIs X x := by unfold mIs; rw [zu_n _ _ _ _ (fun q => h q.1.symm)]
theorem mKc_w (X : zX) (k i : Nat) (v : Int32) (h : k ≠ 1) (h2 : k ≠ 2) (x y : Int32) : mKc (zu X k i v) x y = mKc X x y := by unfold mKc; rw [mIs_w _ _ _ _ h, zu_n _ _ _ _ (fun q => h2 q.1.symm)]
theorem mIi_w (X : zX) (k i : Nat) (v : Int32) (h : k ≠ 5) (p t : Nat) : mIi (zu X k i v) p t = mIi X p t := by unfold mIi; rw [mHd_w _ _ _ _ h, zu_n _ _ _ _ (fun q => h q.1.symm)]
theorem mIf_w (X : zX) (k i : Nat) (v : Int32) (h2 : k ≠ 2) (h : k ≠ 5) (x y : Int32) : mIf (zu X k i v) x y = mIf X x y := by funext p; unfold mIf; rw [zu_n _ _ _ _ (fun q => h q.1.symm), zu_n _ _ _ _ (fun q => h2 q.1.symm)]
theorem mIn_w (X : zX) (k i : Nat) (v : Int32) (h1 : k ≠ 1) (h2 : k ≠ 2) (h : k ≠ 5) (x y : Int32) : mIn (zu X k i v) x y = mIn X x y := by unfold mIn; rw [mIf_w _ _ _ _ h2 h, mN_w _ _ _ _ h1]
/-- fit, take, scrap -/
def mCan (X : zX) (p h : Nat) : Bool :=
  decide (X 5 p = -1) && decide (X 9 p = 0) && decide (¬ X 5 h = -2) && decide (X 12 (mHd X h) = 0) && decide (¬ mPl (X 2 h) (X 2 p) ≤ nI (mIn X (nI h) (X 2 p))) && decide (¬ 1 < X 4 p - X 4 h) && decide (¬ X 4 p - X 4 h < -1)
def m_fit (X : zX) (x y : Int32) : Int32 × zX :=
  if mIs X x = false ∨ mIs X y = false then (0, zu X 0 0 1)
  else if mPl (X 2 y.toNatClampNeg) (X 2 x.toNatClampNeg) = 0 then (0, zu X 0 0 2)
  else if mCan X x.toNatClampNeg y.toNatClampNeg = true then
    (nI (mIn (m_moves (zu X 0 0 0) x.toNatClampNeg y) y (-1)), m_ends (m_moves (zu X 0 0 0) x.toNatClampNeg y) x.toNatClampNeg)
  else (0, zu X 0 0 3)
def m_take (X : zX) (x : Int32) : Int32 × zX :=
  if mIs X x = false then (0, zu X 0 0 1)
  else if X 5 x.toNatClampNeg < 0 ∨ ¬ X 12 (mHd X x.toNatClampNeg) = 0 then (0, zu X 0 0 2)
  else (X 5 x.toNatClampNeg, m_moves (m_ends (zu X 0 0 0) x.toNatClampNeg) x.toNatClampNeg (-1))
def zany (f : Nat → Bool) : Nat → Bool
  | 0 => false
  | n + 1 => zany f n || f n
def mWs (X : zX) (x : Int32) : Bool := zany (fun k => decide (X 27 k = x)) (mW X)
theorem mWs_w (X : zX) (k i : Nat) (v : Int32) (h : k ≠ 26) (h2 : k ≠ 27) (x : Int32) : mWs (zu X k i v) x = mWs X x := by
  have e : (fun j => decide (zu X k i v 27 j = x)) = fun j => decide (X 27 j = x) := by funext j; rw [zu_n _ _ _ _ (fun q => h2 q.1.symm)]
  unfold mWs; rw [mW_w _ _ _ _ h, e]
def m_scrap (X : zX) (x : Int32) : zX :=
  if mIs X x = false then zu X 0 0 1
  else if ¬ X 5 x.toNatClampNeg = -1 ∨ 0 < nI (mIn X x (-1)) ∨ ¬ X 12 (mHd X x.toNatClampNeg) = 0 ∨ mWs X x = true then zu X 0 0 2
  else m_moves (zu X 0 0 0) x.toNatClampNeg (-2)
/-- factor, goes, run -/
def mFa (s : Int32) : Int32 := if s = 3 then 2 else s + 1
def zgr (f : Int32) : Nat → Int32
  | 0 => f
  | n + 1 => zgr f n + (1 + zgr f n / 10)
def mSt (X : zX) (p : Nat) (km : Int32) : Int32 := if X 18 p = 0 then 0 else (X 6 p + km - X 19 p) / 500 - (X 6 p - X 19 p) / 500
/-- goes: what becomes of a part -/
def mGo1 (X : zX) (p : Nat) (km : Int32) : zX := zu (zu X 6 p (X 6 p + km)) 7 p (X 7 p + km)
def mGo2 (X : zX) (p : Nat) (km se : Int32) : zX :=
  if X 2 p = 3 then zu (zu (zu (mGo1 X p km) 15 p (X 15 p + km * mFa se)) 13 p (X 13 p - ((X 6 p + km) / 100 - X 6 p / 100))) 14 p (X 14 p - ((X 15 p + km * mFa se) / 200 - X 15 p / 200)) else mGo1 X p km
def m_goes (X : zX) (p : Nat) (km se : Int32) : zX := zu (mGo2 X p km se) 18 p (zgr (X 18 p) (mSt X p km).toNatClampNeg)
/-- one part of run's first loop; all of them, from n down; the second loop -/
def mRn1 (t : Nat) (km se : Int32) (p : Nat) (s : zX × Int32) : zX × Int32 :=
  if mIi s.1 p t = true then (m_goes s.1 p km se, if ¬ m_goes s.1 p km se 18 p < 100 then nI p else s.2) else s
def mRn (t : Nat) (km se : Int32) : Nat → zX × Int32 → zX × Int32
  | 0, s => s
  | p + 1, s => mRn t km se p (mRn1 t km se p s)
def mHl (X : zX) (t : Nat) : Nat → zX
  | 0 => X
  | p + 1 => if ¬ X 9 p = 0 ∨ mIi X p t = true then zu (mHl X t p) 9 p 1 else zu (mHl X t p) 9 p 0
def m_run (X : zX) (x km se : Int32) : Int32 × zX :=
  if ¬ mKc X x 0 = 0 then (0, zu X 0 0 (mKc X x 0))
  else if zin km 1 2000 = false ∨ zin se 0 3 = false then (0, zu X 0 0 2)
  else if X 11 x.toNatClampNeg = 0 ∨ ¬ X 12 (mHd X x.toNatClampNeg) = 0 then (0, zu X 0 0 3)
  else
    let s := mRn x.toNatClampNeg km se (mN X) (zu (zu X 0 0 0) 11 x.toNatClampNeg 0, -1)
    (s.2, if s.2 = -1 then s.1 else mHl s.1 x.toNatClampNeg (mN X))
theorem MH.moves {X : zX} (hI : MH X) {q : Nat} {to : Int32} (ht : to = -1 ∨ to = -2 ∨ ∃ h, to = nI h ∧ h < mN X ∧ mK X h < mK X q) : MH (m_moves X q to) := by
  have e1 : (m_moves X q to) 1 0 = X 1 0 := by simp [m_moves, zu]
  have e2 : (m_moves X q to) 2 = X 2 := by funext j; simp [m_moves, zu]
  have e5 : ∀ p, (m_moves X q to) 5 p = if p = q then to else X 5 p := by intro p; simp [m_moves, zu]
  have n1 : mN (m_moves X q to) = mN X := by unfold mN; rw [e1]
  have n2 : ∀ p, mK (m_moves X q to) p = mK X p := fun p => by unfold mK; rw [e2]
  refine ⟨by rw [n1, e1]; exact hI.1, fun p hp => ?_, fun p hp => ?_⟩
  · rw [n1] at hp; rw [n2, e2]; exact hI.2.1 p hp
  · rw [n1] at hp
    have e6 : mH (m_moves X q to) p = if p = q then to.toNatClampNeg else mH X p := by unfold mH; rw [e5]; split <;> rfl
    rw [n1, n2, n2, e5, e6]
    by_cases c : p = q
    · subst c
      rw [if_pos rfl, if_pos rfl]
      rcases ht with e | e | ⟨h, e, h1, h2⟩
      · exact Or.inl e
      · exact Or.inr (Or.inl e)
      · have hn := hI.1.2
        have e7 : to.toNatClampNeg = h := by rw [e]; exact nI_clamp (by omega)
        rw [e7]
        exact Or.inr (Or.inr ⟨e, h1, h2⟩)
    · rw [if_neg c, if_neg c]
      exact hI.2.2 p hp
theorem mPl_lt {X : zX} (hI : MH X) {p h : Nat} (hp : p < mN X) (hh : h < mN X) (c : ¬ mPl (X 2 h) (X 2 p) = 0) : mK X h < mK X p := by
  obtain ⟨e1, l1⟩ := hI.2.1 p hp
  obtain ⟨e2, l2⟩ := hI.2.1 h hh
  rw [e1, e2] at c
  generalize mK X p = a at *
  generalize mK X h = b at *
  revert c
  have : ∀ a, a < 5 → ∀ b, b < 5 → ¬ mPl (nI b) (nI a) = 0 → b < a := by decide
  exact this a (by omega) b (by omega)
theorem mGo2_cg (X : zX) (p : Nat) (km se : Int32) {k : Nat} (h6 : k ≠ 6) (h7 : k ≠ 7) (h13 : k ≠ 13) (h14 : k ≠ 14) (h15 : k ≠ 15) : mGo2 X p km se k = X k := by
  funext j
  unfold mGo2 mGo1
  split <;> simp [zu, h6, h7, h13, h14, h15]
theorem mGo2_6 (X : zX) (p : Nat) (km se : Int32) : mGo2 X p km se 6 p = X 6 p + km := by
  unfold mGo2 mGo1
  split <;> simp [zu]
theorem m_goes_cg (X : zX) (p : Nat) (km se : Int32) {k : Nat} (h6 : k ≠ 6) (h7 : k ≠ 7) (h13 : k ≠ 13) (h14 : k ≠ 14) (h15 : k ≠ 15) (h18 : k ≠ 18) : m_goes X p km se k = X k := by
  unfold m_goes
  rw [zu_row_ne _ _ _ h18, mGo2_cg X p km se h6 h7 h13 h14 h15]
theorem MH.goes {X : zX} (hI : MH X) (p : Nat) (km se : Int32) : MH (m_goes X p km se) :=
  hI.cg (by rw [m_goes_cg X p km se (by decide) (by decide) (by decide) (by decide) (by decide) (by decide)]) (m_goes_cg X p km se (by decide) (by decide) (by decide) (by decide) (by decide) (by decide)) (m_goes_cg X p km se (by decide) (by decide) (by decide) (by decide) (by decide) (by decide))
theorem mN_goes (X : zX) (p : Nat) (km se : Int32) : mN (m_goes X p km se) = mN X := by unfold mN; rw [m_goes_cg X p km se (by decide) (by decide) (by decide) (by decide) (by decide) (by decide)]
theorem zge_t {G : Int32} {k : Nat} (hk : k ≤ G.toNatClampNeg) (c : G ≤ nI k) : G.toNatClampNeg = k := by
  have h1 : G.toNatClampNeg < 2 ^ 31 := by have := G.toInt_lt; unfold Int32.toNatClampNeg; omega
  have h2 := Int32.le_iff_toInt_le.mp c
  rw [nI_toInt (by omega)] at h2
  unfold Int32.toNatClampNeg at *
  omega
theorem zge_f {G : Int32} {k : Nat} (hk : k < 2 ^ 31) (c : ¬ G ≤ nI k) : k < G.toNatClampNeg := by
  have h2 : ¬ G.toInt ≤ (nI k).toInt := fun q => c (Int32.le_iff_toInt_le.mpr q)
  rw [nI_toInt hk] at h2
  unfold Int32.toNatClampNeg
  omega
theorem zcl (G : Int32) : G.toNatClampNeg < 2 ^ 31 := by have := G.toInt_lt; unfold Int32.toNatClampNeg; omega
theorem mHl_9 (X : zX) (t : Nat) : ∀ n j, n ≤ j → mHl X t n 9 j = X 9 j := by
  intro n
  induction n with
  | zero => intro j _; rfl
  | succ n ih =>
    intro j hj
    unfold mHl
    split <;> (rw [zu_n _ _ _ _ (by omega)]; exact ih j (by omega))
theorem mHl_cg (X : zX) (t : Nat) {k : Nat} (h9 : k ≠ 9) : ∀ n, mHl X t n k = X k := by
  intro n
  induction n with
  | zero => rfl
  | succ n ih =>
    unfold mHl
    split <;> (rw [zu_row_ne _ _ _ h9]; exact ih)
theorem MH.hl {X : zX} (hI : MH X) (t n : Nat) : MH (mHl X t n) := hI.cg (by rw [mHl_cg X t (by decide)]) (mHl_cg X t (by decide) n) (mHl_cg X t (by decide) n)
theorem mN_hl (X : zX) (t n : Nat) : mN (mHl X t n) = mN X := by unfold mN; rw [mHl_cg X t (by decide)]
theorem mIi_cg {X Y : zX} (h5 : Y 5 = X 5) (p t : Nat) : mIi Y p t = mIi X p t := by unfold mIi; rw [mHd_cg h5, h5]
