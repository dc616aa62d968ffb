/-! unlike diameters, and what bars -/
theorem mAi_m {S : zS} {X : zX} (h : zBt S X) {i p : Nat} (hi : i < mN X) (hp : p < mN X) (hk : mK X i = 1 ∨ mK X i = 2) : mAi X i p = true ↔ (p ∈ zDn S 5 i ∧ X 2 p = 3) := by
  have hn := h.1.1.2
  have hm : ∀ {a b : Nat}, a < mN X → b < mN X → X 5 a = nI b → mH X a = b ∧ ¬ X 5 a < 0 := fun {a b} _ hb e => ⟨by unfold mH; rw [e]; exact nI_clamp (by omega), by rw [e]; exact nI_pos (by omega)⟩
  rw [zDn_m h 5 i p hi]
  unfold mAi
  simp only [Bool.and_eq_true, Bool.or_eq_true, decide_eq_true_eq]
  constructor
  · rintro ⟨⟨h3, h5⟩, h6⟩
    obtain ⟨e1, l1, k1⟩ := h.1.host hp h5
    refine ⟨⟨hp, Or.inr ⟨h5, ?_⟩⟩, h3⟩
    rcases h6 with e | e
    · exact Or.inl (hm hp hi e).1
    · obtain ⟨e2, n2⟩ := hm l1 hi e
      exact Or.inr ⟨n2, Or.inl e2⟩
  · rintro ⟨⟨-, ha⟩, h3⟩
    have hk3 : mK X p = 3 := by unfold mK; rw [h3]; decide
    rcases ha with e | ⟨n1, ha⟩
    · rw [e] at hk3; omega
    · obtain ⟨e1, l1, k1⟩ := h.1.host hp n1
      refine ⟨⟨h3, n1⟩, ?_⟩
      rcases ha with e | ⟨n2, ha⟩
      · left; rw [e1, e]
      · obtain ⟨e2, l2, k2⟩ := h.1.host l1 n2
        rcases ha with e | ⟨n3, ha⟩
        · right; rw [e2, e]
        · obtain ⟨e3, l3, k3⟩ := h.1.host l2 n3
          have := zAn.k h.1 2 _ l3 ha
          omega
theorem zd_le {a b : Nat} (ha : a ≤ 9000) (hb : b ≤ 9000) (h8 : 8000 ≤ b) : ¬ 99999 < nI a - nI b := by
  intro z
  have h1 := Int32.lt_iff_toInt_lt.mp z
  rw [Int32.toInt_sub, nI_toInt (by omega), nI_toInt (by omega)] at h1
  have e : (99999 : Int32).toInt = 99999 := by decide
  rw [e] at h1
  have hb2 : ((a : Int) - (b : Int)).bmod (2 ^ 32) = (a : Int) - (b : Int) := by
    apply Int.bmod_eq_of_le <;> omega
  rw [hb2] at h1
  omega
/-- the greatest and the least of a tree: of wheelsets, if there are any -/
theorem zdi_two {S : zS} {X : zX} (h : zBt S X) (hd : zDm X) {i : Nat} (hi : i < mN X) :
    ((∀ p ∈ zDn S 5 i, ¬ X 2 p = 3) ∧ zdi S X true 5 i = 0 ∧ zdi S X false 5 i = 2147483647) ∨
    ∃ a b, (a ∈ zDn S 5 i ∧ X 2 a = 3 ∧ zdi S X true 5 i = X 13 a) ∧ (b ∈ zDn S 5 i ∧ X 2 b = 3 ∧ zdi S X false 5 i = X 13 b) ∧ ∀ p ∈ zDn S 5 i, X 2 p = 3 → X 13 b ≤ X 13 p ∧ X 13 p ≤ X 13 a := by
  obtain ⟨u1, u2⟩ := zdi_up h hd 5 i hi
  obtain ⟨d1, d2⟩ := zdi_dn h hd 5 i hi (by omega)
  have hlt : ∀ p ∈ zDn S 5 i, p < mN X := fun p hp => ((zDn_m h 5 i p hi).mp hp).1
  have d2 := d2 (by omega)
  by_cases hw : ∃ p ∈ zDn S 5 i, X 2 p = 3
  · right
    obtain ⟨p, hp, h3⟩ := hw
    obtain ⟨d, e, k1, k2⟩ := hd p (hlt p hp)
    have ua : ∃ a, a ∈ zDn S 5 i ∧ X 2 a = 3 ∧ zdi S X true 5 i = X 13 a := by
      rcases u2 with z | ⟨a, ha, h3a, z⟩
      · have := u1 p hp h3
        rw [z, e] at this
        exact absurd ((nI_leI (b := 0) (by omega) (by omega)).mp this) (by omega)
      · exact ⟨a, ha, h3a, z⟩
    have ub : ∃ b, b ∈ zDn S 5 i ∧ X 2 b = 3 ∧ zdi S X false 5 i = X 13 b := by
      rcases d2 with z | ⟨b, hb, h3b, z⟩
      · have := d1 p hp h3 (by omega)
        rw [z, e] at this
        exact absurd ((nI_leI (a := 2147483647) (by omega) (by omega)).mp this) (by omega)
      · exact ⟨b, hb, h3b, z⟩
    obtain ⟨a, ha⟩ := ua
    obtain ⟨b, hb⟩ := ub
    refine ⟨a, b, ha, hb, fun q hq h3q => ⟨?_, ?_⟩⟩
    · rw [← hb.2.2]; exact d1 q hq h3q (by omega)
    · rw [← ha.2.2]; exact u1 q hq h3q
  · left
    refine ⟨fun p hp h3 => hw ⟨p, hp, h3⟩, ?_, ?_⟩
    · rcases u2 with z | ⟨a, ha, h3a, -⟩
      · exact z
      · exact absurd ⟨a, ha, h3a⟩ hw
    · rcases d2 with z | ⟨a, ha, h3a, -⟩
      · exact z
      · exact absurd ⟨a, ha, h3a⟩ hw
theorem mAp_eq {S : zS} {X : zX} (h : zBt S X) (hd : zDm X) {i : Nat} (hi : i < mN X) (hk : mK X i = 1 ∨ mK X i = 2) :
    (zdi S X true 5 i - zdi S X false 5 i = mAp X i) ∨ (zdi S X true 5 i - zdi S X false 5 i = -2147483647 ∧ mAp X i = -2000000) := by
  obtain ⟨z1, z2⟩ := zap_c X i (mN X)
  have hlt : ∀ p ∈ zDn S 5 i, p < mN X := fun p hp => ((zDn_m h 5 i p hi).mp hp).1
  rcases zdi_two h hd hi with ⟨n1, n2, n3⟩ | ⟨a, b, ⟨ha, ha3, hae⟩, ⟨hb, hb3, hbe⟩, hab⟩
  · right
    have hno : ∀ p, p < mN X → mAi X i p = true → False := fun p hp hm => by
      obtain ⟨k1, k2⟩ := (mAi_m h hi hp hk).mp hm
      exact n1 p k1 k2
    refine ⟨by rw [n2, n3]; decide, ?_⟩
    unfold mAp
    rcases z2 with ⟨y1, y2, -⟩ | ⟨y1, y2⟩
    · rw [y1, y2]; decide
    · have y1' : (zap X i (mN X)).1 = 1000000 := y1.resolve_right (fun ⟨p, hp, hm, _⟩ => hno p hp hm)
      have y2' : (zap X i (mN X)).2 = -1000000 := y2.resolve_right (fun ⟨p, hp, hm, _⟩ => hno p hp hm)
      rw [y1', y2']; decide
  · left
    have ma := (mAi_m h hi (hlt a ha) hk).mpr ⟨ha, ha3⟩
    have mb := (mAi_m h hi (hlt b hb) hk).mpr ⟨hb, hb3⟩
    obtain ⟨a1, a2⟩ := z1 a (hlt a ha) ma
    obtain ⟨b1, b2⟩ := z1 b (hlt b hb) mb
    obtain ⟨da, ea, ka1, ka2⟩ := hd a (hlt a ha)
    have k0 : ∀ p, p < mN X → mAi X i p = true → X 13 b ≤ X 13 p ∧ X 13 p ≤ X 13 a := fun p hp hm => by
      obtain ⟨k1, k2⟩ := (mAi_m h hi hp hk).mp hm
      exact hab p k1 k2
    unfold mAp
    rcases z2 with ⟨-, -, y3⟩ | ⟨y1, y2⟩
    · exact absurd ma (fun z => y3 a (hlt a ha) z)
    · have e1 : (zap X i (mN X)).1 = X 13 b := by
        rcases y1 with y | ⟨p, hp, hm, y⟩
        · rw [y, ea] at a1
          exact absurd ((nI_leI (a := 1000000) (by omega) (by omega)).mp a1) (by omega)
        · exact Int32.le_antisymm b1 (by rw [y]; exact (k0 p hp hm).1)
      have e2 : (zap X i (mN X)).2 = X 13 a := by
        rcases y2 with y | ⟨p, hp, hm, y⟩
        · rw [y, ea] at a2
          have h1 := Int32.le_iff_toInt_le.mp a2
          rw [nI_toInt (by omega), show (-1000000 : Int32).toInt = -1000000 from by decide] at h1
          omega
        · exact Int32.le_antisymm (by rw [y]; exact (k0 p hp hm).2) a2
      rw [hae, hbe, e1, e2]
theorem zUn_eq {S : zS} {X : zX} (h : zBt S X) (hd : zDm X) {i : Nat} (hi : i < mN X) : zUn S X i = mBb X i 6 := by
  obtain ⟨e, h4⟩ := h.1.2.1 i hi
  have hm : mBb X i 6 = ((decide (X 2 i = 2) && decide (20 < mAp X i)) || (decide (X 2 i = 1) && decide (¬ mAp X i ≤ 60))) := rfl
  have hlt : ∀ p ∈ zDn S 5 i, p < mN X := fun p hp => ((zDn_m h 5 i p hi).mp hp).1
  rw [hm]
  unfold zUn
  by_cases c2 : X 2 i = 2
  · have hk : mK X i = 2 := by unfold mK; rw [c2]; decide
    rw [if_pos c2, c2, show decide ((2 : Int32) = 2) = true by decide, show decide ((2 : Int32) = 1) = false by decide, Bool.true_and, Bool.false_and, Bool.or_false]
    rcases mAp_eq h hd hi (Or.inr hk) with z | ⟨z1, z2⟩
    · rw [z]
    · rw [z1, z2]; decide
  · by_cases c1 : X 2 i = 1
    · have hk : mK X i = 1 := by unfold mK; rw [c1]; decide
      rw [if_neg c2, if_pos c1, c1, show decide ((1 : Int32) = 2) = false by decide, show decide ((1 : Int32) = 1) = true by decide, Bool.false_and, Bool.false_or, Bool.true_and]
      rcases mAp_eq h hd hi (Or.inl hk) with z | ⟨z1, z2⟩
      · rw [z]; congr 1; exact propext Int32.not_le.symm
      · rw [z1, z2]; decide
    · rw [if_neg c2, if_neg c1, decide_eq_false c2, decide_eq_false c1, Bool.false_and, Bool.false_and, Bool.or_false]
      rcases zdi_two h hd hi with ⟨-, n2, n3⟩ | ⟨a, b, ⟨ha, -, hae⟩, ⟨hb, -, hbe⟩, -⟩
      · rw [n2, n3]; decide
      · obtain ⟨da, ea, ka1, ka2⟩ := hd a (hlt a ha)
        obtain ⟨db, eb, kb1, kb2⟩ := hd b (hlt b hb)
        rw [hae, hbe, ea, eb]
        exact decide_eq_false (zd_le ka2 kb2 kb1)
theorem zBr_eq {S : zS} {X : zX} (h : zBt S X) (hd : zDm X) {i : Nat} (hi : i < mN X) (r : Nat) : zBr S X i r = mBb X i r := by
  unfold zBr
  by_cases c1 : r = 1
  · subst c1; rw [if_pos rfl, zlk_he h hi]; rfl
  · rw [if_neg c1]
    by_cases c6 : r = 6
    · subst c6; rw [if_pos rfl, zUn_eq h hd hi]
    · rw [if_neg c6]
theorem zBB_of {S : zS} {X : zX} (h : zBt S X) (hd : zDm X) : zBB S X := by
  intro t ht h2
  have h5 := h.tr ht h2
  have e : ∀ r, zfi (fun i => decide (mHd X i = t) && zBr S X i r) (mN X) 0 = zfi (fun p => mIi X p t && mBb X p r) (mN X) 0 := fun r => zfi_cg _ _ _ _ (fun p _ hp => by
    rw [zBr_eq h hd (by omega)]
    congr 1
    by_cases c : mHd X p = t
    · rw [decide_eq_true c, (mIi_hd h5).mpr c]
    · rw [decide_eq_false c, Bool.eq_false_iff.mpr (fun z => c ((mIi_hd h5).mp z))])
  have key : ∀ k r, 1 ≤ r → r + k = 8 → (zre S X t k r = 0 ∧ zbo X t k r = 0) ∨ ∃ r' i, zre S X t k r = r' ∧ 1 ≤ r' ∧ r' ≤ 7 ∧ zfi (fun i => decide (mHd X i = t) && zBr S X i r') (mN X) 0 = some i ∧ zbo X t k r = nI (100 * r' + i) := by
    intro k
    induction k with
    | zero => intro r _ _; exact Or.inl ⟨rfl, rfl⟩
    | succ k ih =>
      intro r h1 h8
      cases hz : zfi (fun i => decide (mHd X i = t) && zBr S X i r) (mN X) 0 with
      | none =>
        have a1 : zre S X t (k + 1) r = zre S X t k (r + 1) := by
          show (if (zfi (fun i => decide (mHd X i = t) && zBr S X i r) (mN X) 0).isSome = true then r else zre S X t k (r + 1)) = _
          rw [hz]; rfl
        have a2 : zbo X t (k + 1) r = zbo X t k (r + 1) := by
          show (match zfi (fun p => mIi X p t && mBb X p r) (mN X) 0 with | some p => nI (100 * r + p) | none => zbo X t k (r + 1)) = _
          rw [← e r, hz]
        rw [a1, a2]
        exact ih (r + 1) (by omega) (by omega)
      | some i =>
        right
        refine ⟨r, i, ?_, h1, by omega, hz, ?_⟩
        · show (if (zfi (fun i => decide (mHd X i = t) && zBr S X i r) (mN X) 0).isSome = true then r else zre S X t k (r + 1)) = _
          rw [hz]; rfl
        · show (match zfi (fun p => mIi X p t && mBb X p r) (mN X) 0 with | some p => nI (100 * r + p) | none => zbo X t k (r + 1)) = _
          rw [← e r, hz]
  exact key 7 1 (by omega) rfl
