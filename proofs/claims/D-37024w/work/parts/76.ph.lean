/-! numbers: flanges, diameters, lives, flaws -/
def zWh (X : zX) : Prop := ∀ p, p < mN X → ∃ f d : Nat, X 14 p = nI f ∧ X 13 p = nI d ∧ 200 ≤ f ∧ f ≤ 300 ∧ d ≤ 9000 ∧ 8300 + 2 * (300 - f) ≤ d
def zLv (t : Nat) (X : zX) : Prop := ∀ p, p < mN X → ∃ a b r : Nat, X 6 p = nI a ∧ X 19 p = nI b ∧ X 15 p = nI r ∧ b ≤ a ∧ a ≤ 2000 * t ∧ r ≤ 6000 * t
def zFw (X : zX) : Prop := ∀ p, p < mN X → ∃ w : Nat, X 18 p = nI w ∧ w ≤ 200 ∧ (X 9 p = 0 → w ≤ 99)
/-- a wheelset of a released train -/
def zGd (X : zX) (p : Nat) : Prop := ∃ f d : Nat, X 14 p = nI f ∧ X 13 p = nI d ∧ 250 ≤ f ∧ f ≤ 300 ∧ d ≤ 9000 ∧ 8400 + 2 * (300 - f) ≤ d
def zRl (S : zS) (X : zX) : Prop := ∀ t, t < mN X → ¬ X 11 t = 0 → X 2 t = 0 ∧ ¬ S.K t = [] ∧ ∀ p, p < mN X → mHd X p = t → X 9 p = 0 ∧ (X 2 p = 3 → zGd X p)
theorem zWh.dm {X : zX} (h : zWh X) : zDm X := fun p hp => by
  obtain ⟨f, d, -, e, -, -, h1, h2⟩ := h p hp
  exact ⟨d, e, by omega, h1⟩
theorem zgr_ok : ∀ w, w < 100 → ∀ j, j < 6 → zgr (nI w) j = nI (zgr (nI w) j).toNatClampNeg ∧ (zgr (nI w) j).toNatClampNeg ≤ 200 ∧ (1 ≤ w → 1 ≤ (zgr (nI w) j).toNatClampNeg) := by decide +kernel
theorem zgr_0 : ∀ j, j < 6 → zgr (nI 0) j = zgr 0 j := by decide
/-- how many steps a run has -/
theorem zst_n {X : zX} {p a b k : Nat} (h6 : X 6 p = nI a) (h19 : X 19 p = nI b) (hba : b ≤ a) (ha : a ≤ 200000) (hk : k ≤ 2000) : (mSt X p (nI k)).toNatClampNeg ≤ 5 ∧ (¬ X 18 p = 0 → mSt X p (nI k) = nI ((a + k - b) / 500 - (a - b) / 500)) ∧ (X 18 p = 0 → mSt X p (nI k) = 0) := by
  have e : (X 6 p + nI k - X 19 p) / 500 - (X 6 p - X 19 p) / 500 = nI ((a + k - b) / 500 - (a - b) / 500) := by
    rw [h6, h19, nI_add, zsub (by omega), zsub hba]
    show nI (a + k - b) / nI 500 - nI (a - b) / nI 500 = _
    rw [pk_div (by omega) (by decide) (by decide), pk_div (by omega) (by decide) (by decide), zsub (by omega)]
  have hd : (a + k - b) / 500 - (a - b) / 500 ≤ 5 := by omega
  refine ⟨?_, fun h => by unfold mSt; rw [if_neg h, e], fun h => by unfold mSt; rw [if_pos h]⟩
  unfold mSt
  split
  · decide
  · rw [e, nI_clamp (by omega)]; exact hd
theorem zfl_ok {X : zX} {p w a b k : Nat} (h18 : X 18 p = nI w) (hw : w ≤ 99) (h6 : X 6 p = nI a) (h19 : X 19 p = nI b) (hba : b ≤ a) (ha : a ≤ 200000) (hk : k ≤ 2000) : zfl X (nI k) p := by
  obtain ⟨s1, -, -⟩ := zst_n h6 h19 hba ha hk
  unfold zfl
  by_cases z : w = 0
  · left; rw [h18, z]; decide
  · right
    intro j hj
    obtain ⟨e1, e2, e3⟩ := zgr_ok w (by omega) j (by omega)
    rw [h18, e1]
    intro q
    have := (nI_leI (b := 0) (by omega) (by omega)).mp q
    have := e3 (by omega)
    omega
/-- what a run makes of a part's numbers -/
theorem m_goes_n {X : zX} {p a b r w f d k : Nat} {se : Int32} (h6 : X 6 p = nI a) (h19 : X 19 p = nI b) (h15 : X 15 p = nI r) (hba : b ≤ a) (ha : a ≤ 200000) (hr : r ≤ 600000) (h18 : X 18 p = nI w) (hw : w ≤ 99) (h14 : X 14 p = nI f) (h13 : X 13 p = nI d) (hf : f ≤ 300) (hd : d ≤ 9000) (hk1 : 1 ≤ k) (hk : k ≤ 2000) (hse : zin se 0 3 = true)
    (hgood : X 2 p = 3 → 250 ≤ f ∧ 8400 + 2 * (300 - f) ≤ d) (hany : 200 ≤ f ∧ 8300 + 2 * (300 - f) ≤ d) :
    m_goes X p (nI k) se 6 p = nI (a + k) ∧ m_goes X p (nI k) se 19 p = nI b ∧ (∃ r', m_goes X p (nI k) se 15 p = nI r' ∧ r' ≤ r + 6000) ∧ (∃ w', m_goes X p (nI k) se 18 p = nI w' ∧ w' ≤ 200) ∧ ∃ f' d', m_goes X p (nI k) se 14 p = nI f' ∧ m_goes X p (nI k) se 13 p = nI d' ∧ 200 ≤ f' ∧ f' ≤ 300 ∧ d' ≤ 9000 ∧ 8300 + 2 * (300 - f') ≤ d' := by
  have n18 : ∀ j, j ≠ 18 → m_goes X p (nI k) se j p = mGo2 X p (nI k) se j p := fun j hj => by unfold m_goes; exact zu_n _ _ _ _ (fun z => hj z.1)
  obtain ⟨g, hg, hg1, hg3⟩ : ∃ g, mFa se = nI g ∧ 1 ≤ g ∧ g ≤ 3 := by
    obtain ⟨j, hj, rfl⟩ := zin_n (b := 3) rfl hse
    have : ∀ j, j < 4 → mFa (nI j) = nI (mFa (nI j)).toNatClampNeg ∧ 1 ≤ (mFa (nI j)).toNatClampNeg ∧ (mFa (nI j)).toNatClampNeg ≤ 3 := by decide
    obtain ⟨q1, q2, q3⟩ := this j (by omega)
    exact ⟨_, q1, q2, q3⟩
  have hkg : k * g ≤ 6000 := by
    have := Nat.mul_le_mul hk hg3
    omega
  have c19 : mGo2 X p (nI k) se 19 p = X 19 p := congrFun (mGo2_cg X p (nI k) se (by decide) (by decide) (by decide) (by decide) (by decide)) p
  refine ⟨?_, ?_, ?_, ?_, ?_⟩
  · rw [n18 6 (by decide), mGo2_6, h6, nI_add]
  · rw [n18 19 (by decide), c19, h19]
  · rw [n18 15 (by decide)]
    by_cases c : X 2 p = 3
    · refine ⟨r + k * g, ?_, by omega⟩
      unfold mGo2
      rw [if_pos c, zu_n _ _ _ _ (fun z => absurd z.1 (by decide)), zu_n _ _ _ _ (fun z => absurd z.1 (by decide)), zu_s, h15, hg, pk_mul, nI_add]
    · refine ⟨r, ?_, by omega⟩
      unfold mGo2 mGo1
      rw [if_neg c, zu_n _ _ _ _ (fun z => absurd z.1 (by decide)), zu_n _ _ _ _ (fun z => absurd z.1 (by decide)), h15]
  · obtain ⟨s1, -, -⟩ := zst_n (X := X) h6 h19 hba ha hk
    obtain ⟨e1, e2, -⟩ := zgr_ok w (by omega) (mSt X p (nI k)).toNatClampNeg (by omega)
    refine ⟨_, ?_, e2⟩
    unfold m_goes
    rw [zu_s, h18]; exact e1
  · rw [n18 14 (by decide), n18 13 (by decide)]
    by_cases c : X 2 p = 3
    · obtain ⟨q1, q2⟩ := hgood c
      have e14 : mGo2 X p (nI k) se 14 p = nI (f - ((r + k * g) / 200 - r / 200)) := by
        unfold mGo2
        rw [if_pos c, zu_s, h14, h15, hg, pk_mul, nI_add]
        show nI f - (nI (r + k * g) / nI 200 - nI r / nI 200) = _
        rw [pk_div (by omega) (by decide) (by decide), pk_div (by omega) (by decide) (by decide), zsub (by omega), zsub (by omega)]
      have e13 : mGo2 X p (nI k) se 13 p = nI (d - ((a + k) / 100 - a / 100)) := by
        unfold mGo2
        rw [if_pos c, zu_n _ _ _ _ (fun z => absurd z.1 (by decide)), zu_s, h13, h6, nI_add]
        show nI d - (nI (a + k) / nI 100 - nI a / nI 100) = _
        rw [pk_div (by omega) (by decide) (by decide), pk_div (by omega) (by decide) (by decide), zsub (by omega), zsub (by omega)]
      exact ⟨_, _, e14, e13, by omega, by omega, by omega, by omega⟩
    · have e14 : mGo2 X p (nI k) se 14 p = nI f := by
        unfold mGo2 mGo1
        rw [if_neg c, zu_n _ _ _ _ (fun z => absurd z.1 (by decide)), zu_n _ _ _ _ (fun z => absurd z.1 (by decide)), h14]
      have e13 : mGo2 X p (nI k) se 13 p = nI d := by
        unfold mGo2 mGo1
        rw [if_neg c, zu_n _ _ _ _ (fun z => absurd z.1 (by decide)), zu_n _ _ _ _ (fun z => absurd z.1 (by decide)), h13]
      exact ⟨f, d, e14, e13, hany.1, hf, hd, hany.2⟩
