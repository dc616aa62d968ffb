/-! the tree as a list: each part once; those whose head it is -/
def zAn (X : zX) : Nat → Nat → Nat → Prop
  | 0, _, _ => False
  | n + 1, i, p => p = i ∨ (¬ X 5 p < 0 ∧ zAn X n i (mH X p))
theorem zAn.mono {X : zX} {i : Nat} : ∀ n p, zAn X n i p → zAn X (n + 1) i p := by
  intro n
  induction n with
  | zero => intro p h; cases h
  | succ n ih =>
    intro p h
    rcases h with h | ⟨h1, h2⟩
    · exact Or.inl h
    · exact Or.inr ⟨h1, ih _ h2⟩
theorem zAn.k {X : zX} (hI : MH X) {i : Nat} : ∀ n p, p < mN X → zAn X n i p → mK X i ≤ mK X p := by
  intro n
  induction n with
  | zero => intro p _ h; cases h
  | succ n ih =>
    intro p hp h
    rcases h with h | ⟨h1, h2⟩
    · rw [h]; exact Nat.le_refl _
    · obtain ⟨-, h3, h4⟩ := hI.host hp h1
      exact Nat.le_trans (ih _ h3 h2) (Nat.le_of_lt h4)
theorem zAn.s {S : zS} {X : zX} (h : zBt S X) {i : Nat} (hi : i < mN X) : ∀ n p, p < mN X → (zAn X (n + 1) i p ↔ p = i ∨ ∃ q ∈ S.K i, zAn X n q p) := by
  intro n
  induction n with
  | zero =>
    intro p hp
    constructor
    · rintro (e | ⟨-, e⟩)
      · exact Or.inl e
      · cases e
    · rintro (e | ⟨q, -, e⟩)
      · exact Or.inl e
      · cases e
  | succ n ih =>
    intro p hp
    constructor
    · rintro (e | ⟨h1, h2⟩)
      · exact Or.inl e
      · obtain ⟨-, h3, -⟩ := h.1.host hp h1
        rcases (ih _ h3).mp h2 with e | ⟨q, hq, e⟩
        · exact Or.inr ⟨p, by rw [← e]; exact h.km p hp h1, Or.inl rfl⟩
        · exact Or.inr ⟨q, hq, Or.inr ⟨h1, e⟩⟩
    · rintro (e | ⟨q, hq, e⟩)
      · exact Or.inl e
      · rcases e with e | ⟨h1, e⟩
        · subst e
          obtain ⟨h1, h2, h3, h4⟩ := h.hst hi hq
          exact Or.inr ⟨h4, by rw [h3]; exact Or.inl rfl⟩
        · obtain ⟨-, h3, -⟩ := h.1.host hp h1
          exact Or.inr ⟨h1, (ih _ h3).mpr (Or.inr ⟨q, hq, e⟩)⟩
theorem zAn.tot {X : zX} {a b : Nat} : ∀ n p, zAn X n a p → zAn X n b p → zAn X n b a ∨ zAn X n a b := by
  intro n
  induction n with
  | zero => intro p h; cases h
  | succ n ih =>
    intro p h1 h2
    rcases h1 with e | ⟨k1, k2⟩
    · subst e; exact Or.inl h2
    · rcases h2 with e | ⟨k3, k4⟩
      · subst e; exact Or.inr (Or.inr ⟨k1, k2⟩)
      · rcases ih _ k2 k4 with z | z
        · exact Or.inl (zAn.mono _ _ z)
        · exact Or.inr (zAn.mono _ _ z)
theorem zDn_m {S : zS} {X : zX} (h : zBt S X) : ∀ n i p, i < mN X → (p ∈ zDn S n i ↔ (p < mN X ∧ zAn X n i p)) := by
  intro n
  induction n with
  | zero => intro i p _; exact ⟨fun z => absurd z List.not_mem_nil, fun z => z.2.elim⟩
  | succ n ih =>
    intro i p hi
    show p ∈ i :: (S.K i).flatMap (zDn S n) ↔ _
    rw [List.mem_cons, List.mem_flatMap]
    constructor
    · rintro (e | ⟨q, hq, e⟩)
      · subst e; exact ⟨hi, Or.inl rfl⟩
      · obtain ⟨h1, h2⟩ := (ih q p (h.hst hi hq).1).mp e
        exact ⟨h1, (zAn.s h hi n p h1).mpr (Or.inr ⟨q, hq, h2⟩)⟩
    · rintro ⟨h1, h2⟩
      rcases (zAn.s h hi n p h1).mp h2 with e | ⟨q, hq, e⟩
      · exact Or.inl e
      · exact Or.inr ⟨q, hq, (ih q p (h.hst hi hq).1).mpr ⟨h1, e⟩⟩
theorem zDn_nd {S : zS} {X : zX} (h : zBt S X) : ∀ n i, i < mN X → (zDn S n i).Nodup := by
  intro n
  induction n with
  | zero => intro i _; exact List.nodup_nil
  | succ n ih =>
    intro i hi
    show (i :: (S.K i).flatMap (zDn S n)).Nodup
    refine List.nodup_cons.mpr ⟨fun z => ?_, ?_⟩
    · obtain ⟨q, hq, e⟩ := List.mem_flatMap.mp z
      have h1 := ((zDn_m h n q i (h.hst hi hq).1).mp e).2
      have h2 := zAn.k h.1 n i hi h1
      have h3 := h.kk i hi q hq
      omega
    · refine List.pairwise_flatMap.mpr ⟨fun q hq => ih q (h.hst hi hq).1, ?_⟩
      have hnd : (S.K i).Nodup := (h.2.2.1 i hi).1
      refine List.Pairwise.imp_of_mem ?_ hnd
      intro a b ha hb hne x hx y hy e
      subst e
      obtain ⟨hxl, hax⟩ := (zDn_m h n a x (h.hst hi ha).1).mp hx
      obtain ⟨-, hbx⟩ := (zDn_m h n b x (h.hst hi hb).1).mp hy
      have key : ∀ u v, u ∈ S.K i → v ∈ S.K i → u ≠ v → ¬ zAn X n v u := by
        intro u v hu hv hne2 hz
        cases n with
        | zero => cases hz
        | succ n =>
          rcases hz with e | ⟨h1, h2⟩
          · exact hne2 e
          · rw [(h.hst hi hu).2.2.1] at h2
            have := zAn.k h.1 n i hi h2
            have := h.kk i hi v hv
            omega
      rcases zAn.tot n x hax hbx with z | z
      · exact key a b ha hb hne z
      · exact key b a hb ha hne.symm z
theorem mHd_top {X : zX} {t : Nat} (h : X 5 t < 0) : mHd X t = t := by
  show (if X 5 t < 0 then t else mHf X 4 (mH X t)) = t
  rw [if_pos h]
theorem zAn_hd {X : zX} (hI : MH X) {t : Nat} (ht : X 5 t < 0) : ∀ n p, p < mN X → zAn X n t p → mHd X p = t := by
  intro n
  induction n with
  | zero => intro p _ h; cases h
  | succ n ih =>
    intro p hp h
    rcases h with e | ⟨h1, h2⟩
    · rw [e]; exact mHd_top ht
    · rw [mHd_host hI hp h1]; exact ih _ (hI.host hp h1).2.1 h2
theorem zAn_of {X : zX} : ∀ k p, zAn X (k + 1) (mHf X k p) p := by
  intro k
  induction k with
  | zero => intro p; exact Or.inl rfl
  | succ k ih =>
    intro p
    show p = (if X 5 p < 0 then p else mHf X k (mH X p)) ∨ _
    by_cases c : X 5 p < 0
    · rw [if_pos c]; exact Or.inl rfl
    · refine Or.inr ⟨c, ?_⟩
      show zAn X (k + 1) (if X 5 p < 0 then p else mHf X k (mH X p)) (mH X p)
      rw [if_neg c]; exact ih _
theorem zDn_hd {S : zS} {X : zX} (h : zBt S X) {t p : Nat} (ht : t < mN X) (h5 : X 5 t < 0) : p ∈ zDn S 5 t ↔ (p < mN X ∧ mHd X p = t) := by
  rw [zDn_m h 5 t p ht]
  constructor
  · rintro ⟨h1, h2⟩; exact ⟨h1, zAn_hd h.1 h5 5 p h1 h2⟩
  · rintro ⟨h1, h2⟩
    refine ⟨h1, ?_⟩
    have e : mHd X p = mHf X 4 p := mHf_st h.1 4 p h1 (h.1.2.1 p h1).2
    rw [← h2, e]
    exact zAn_of 4 p
theorem zBt.tr {S : zS} {X : zX} (h : zBt S X) {t : Nat} (ht : t < mN X) (h2 : X 2 t = 0) : X 5 t < 0 := by
  by_cases c : X 5 t < 0
  · exact c
  · obtain ⟨-, h3, h4⟩ := h.1.host ht c
    have e := (h.1.2.1 t ht).1
    rw [h2] at e
    have : mK X t = 0 := by unfold mK; rw [h2]; decide
    omega
theorem mIi_hd {X : zX} {t p : Nat} (h5 : X 5 t < 0) : mIi X p t = true ↔ mHd X p = t := by
  unfold mIi
  constructor
  · intro h
    simp only [Bool.or_eq_true, Bool.and_eq_true, decide_eq_true_eq] at h
    rcases h with h | h
    · exact h.2
    · rw [h]; exact mHd_top h5
  · intro h
    simp only [Bool.or_eq_true, Bool.and_eq_true, decide_eq_true_eq]
    by_cases c : X 5 p = -2
    · right
      have : X 5 p < 0 := by rw [c]; decide
      rw [mHd_top this] at h; exact h
    · exact Or.inl ⟨c, h⟩
/-! run -/
theorem m_goes_col {X Y : zX} {p : Nat} (km se : Int32) (h : ∀ r, Y r p = X r p) (r : Nat) : m_goes Y p km se r p = m_goes X p km se r p := by
  have hs : mSt Y p km = mSt X p km := by unfold mSt; rw [h 18, h 6, h 19]
  have hg : ∀ r, mGo1 Y p km r p = mGo1 X p km r p := fun r => by
    unfold mGo1
    rw [h 6, h 7]
    by_cases e7 : r = 7
    · subst e7; rw [zu_s, zu_s]
    · rw [zu_n _ _ _ _ (fun z => e7 z.1), zu_n _ _ _ _ (fun z => e7 z.1)]
      by_cases e6 : r = 6
      · subst e6; rw [zu_s, zu_s]
      · rw [zu_n _ _ _ _ (fun z => e6 z.1), zu_n _ _ _ _ (fun z => e6 z.1), h r]
  have hz : ∀ (A B : zX) (k : Nat) (v : Int32), (∀ r, A r p = B r p) → ∀ r, zu A k p v r p = zu B k p v r p := fun A B k v hab r => by
    by_cases e : r = k
    · subst e; rw [zu_s, zu_s]
    · rw [zu_n _ _ _ _ (fun z => e z.1), zu_n _ _ _ _ (fun z => e z.1), hab r]
  have h2 : ∀ r, mGo2 Y p km se r p = mGo2 X p km se r p := fun r => by
    unfold mGo2
    rw [h 2, h 15, h 13, h 14, h 6]
    split
    · exact hz _ _ _ _ (hz _ _ _ _ (hz _ _ _ _ hg)) r
    · exact hg r
  unfold m_goes
  rw [hs, h 18]
  exact hz _ _ _ _ h2 r
theorem zfg_in (km se : Int32) {p : Nat} (r : Nat) : ∀ (L : List Nat) (X : zX), L.Nodup → p ∈ L → L.foldl (fun Y q => m_goes Y q km se) X r p = m_goes X p km se r p := by
  intro L
  induction L with
  | nil => intro X _ h; cases h
  | cons q L ih =>
    intro X h1 h2
    obtain ⟨h3, h4⟩ := List.nodup_cons.mp h1
    show L.foldl _ (m_goes X q km se) r p = _
    by_cases e : p = q
    · subst e
      exact zfg_out km se r L _ h3
    · have h5 : p ∈ L := by
        rcases List.mem_cons.mp h2 with z | z
        · exact absurd z e
        · exact z
      rw [ih _ h4 h5]
      exact m_goes_col km se (fun r => m_goes_out X km se e r) r
theorem mRn1_5 (t : Nat) (km se : Int32) (p : Nat) (s : zX × Int32) : (mRn1 t km se p s).1 5 = s.1 5 := by
  unfold mRn1
  split
  · exact m_goes_cg s.1 p km se (k := 5) (by decide) (by decide) (by decide) (by decide) (by decide) (by decide)
  · rfl
theorem mRn_5 (t : Nat) (km se : Int32) : ∀ n s, (mRn t km se n s).1 5 = s.1 5 := by
  intro n
  induction n with
  | zero => intro s; rfl
  | succ n ih =>
    intro s
    show (mRn t km se n (mRn1 t km se n s)).1 5 = _
    rw [ih]
    exact mRn1_5 t km se n s
theorem mRn1_hi (t : Nat) (km se : Int32) (p : Nat) (s : zX × Int32) {q : Nat} (h : q ≠ p) (r : Nat) : (mRn1 t km se p s).1 r q = s.1 r q := by
  unfold mRn1
  split
  · exact m_goes_out _ km se h r
  · rfl
theorem mRn_hi (t : Nat) (km se : Int32) (r : Nat) {q : Nat} : ∀ n s, n ≤ q → (mRn t km se n s).1 r q = s.1 r q := by
  intro n
  induction n with
  | zero => intro s _; rfl
  | succ n ih =>
    intro s h
    show (mRn t km se n (mRn1 t km se n s)).1 r q = _
    rw [ih _ (by omega), mRn1_hi _ _ _ _ _ (by omega)]
/-- column q after the round: gone if it's in the train -/
theorem mRn_col (t : Nat) (km se : Int32) (r : Nat) {q : Nat} : ∀ n s, q < n → (mRn t km se n s).1 r q = if mIi s.1 q t = true then m_goes s.1 q km se r q else s.1 r q := by
  intro n
  induction n with
  | zero => intro s h; omega
  | succ n ih =>
    intro s h
    show (mRn t km se n (mRn1 t km se n s)).1 r q = _
    have h5 : (mRn1 t km se n s).1 5 = s.1 5 := mRn1_5 t km se n s
    by_cases e : q = n
    · subst e
      rw [mRn_hi _ _ _ _ _ _ (Nat.le_refl _)]
      unfold mRn1
      split <;> rfl
    · rw [ih _ (by omega), mIi_cg h5]
      split
      · exact m_goes_col km se (fun r => mRn1_hi t km se n s e r) r
      · exact mRn1_hi t km se n s e r
/-- the lowest broken one -/
theorem mRn_br (t : Nat) (km se : Int32) : ∀ n s, (mRn t km se n s).2 = match zfi (fun p => mIi s.1 p t && decide (¬ m_goes s.1 p km se 18 p < 100)) n 0 with | some b => nI b | none => s.2 := by
  have aux : ∀ (f : Nat → Bool) n j, zfi f (n + 1) j = match zfi f n j with | some b => some b | none => if f (j + n) = true then some (j + n) else none := by
    intro f n
    induction n with
    | zero => intro j; show (if f j = true then some j else none) = (if f (j + 0) = true then some (j + 0) else none); rfl
    | succ n ih =>
      intro j
      show (if f j = true then some j else zfi f (n + 1) (j + 1)) = match (if f j = true then some j else zfi f n (j + 1)) with | some b => some b | none => _
      by_cases c : f j = true
      · rw [if_pos c, if_pos c]
      · rw [if_neg c, if_neg c, ih (j + 1), show j + 1 + n = j + (n + 1) by omega]
  have cgf : ∀ (f g : Nat → Bool) n j, (∀ p, j ≤ p → p < j + n → f p = g p) → zfi f n j = zfi g n j := by
    intro f g n
    induction n with
    | zero => intro j _; rfl
    | succ n ih =>
      intro j h
      show (if f j = true then some j else zfi f n (j + 1)) = (if g j = true then some j else zfi g n (j + 1))
      rw [h j (Nat.le_refl _) (by omega), ih (j + 1) (fun p h1 h2 => h p (by omega) (by omega))]
  intro n
  induction n with
  | zero => intro s; rfl
  | succ n ih =>
    intro s
    show (mRn t km se n (mRn1 t km se n s)).2 = _
    have h5 : (mRn1 t km se n s).1 5 = s.1 5 := mRn1_5 t km se n s
    rw [ih, aux, cgf (fun p => mIi (mRn1 t km se n s).1 p t && decide (¬ m_goes (mRn1 t km se n s).1 p km se 18 p < 100)) (fun p => mIi s.1 p t && decide (¬ m_goes s.1 p km se 18 p < 100)) n 0 (fun p _ hp => by
      rw [mIi_cg h5, m_goes_col km se (fun r => mRn1_hi t km se n s (by omega) r) 18])]
    cases hz : zfi (fun p => mIi s.1 p t && decide (¬ m_goes s.1 p km se 18 p < 100)) n 0 with
    | some b => rfl
    | none =>
      show (mRn1 t km se n s).2 = _
      rw [Nat.zero_add]
      unfold mRn1
      by_cases c : mIi s.1 n t = true
      · rw [if_pos c, c]
        by_cases c2 : m_goes s.1 n km se 18 n < 100
        · simp [c2]
        · simp [c2]
      · rw [if_neg c]
        simp [c]
