/-! the tree is kept -/
theorem zBt.cg {S S' : zS} {X Y : zX} (h : zBt S X) (h1 : Y 1 = X 1) (h2 : Y 2 = X 2) (h5 : Y 5 = X 5) (hK : S'.K = S.K) : zBt S' Y := by
  have e1 : mN Y = mN X := by unfold mN; rw [h1]
  have e3 : ∀ p, mH Y p = mH X p := fun p => by unfold mH; rw [h5]
  refine ⟨h.1.cg (by rw [h1]) h2 h5, fun p hp => ?_, fun i hi => ?_, fun i hi => ?_⟩
  · rw [e1] at hp; rw [h5, h2, e3]; exact h.2.1 p hp
  · rw [e1] at hi; rw [hK, e1, h5]; exact h.2.2.1 i hi
  · rw [e1] at hi; rw [hK, h2]; exact h.2.2.2 i hi
theorem nI_inj60 {a b : Nat} (ha : a < 60) (hb : b < 60) (e : nI a = nI b) : a = b := by
  have := congrArg Int32.toNatClampNeg e
  rw [nI_clamp (by omega), nI_clamp (by omega)] at this
  exact this
theorem nI_nm2 {n : Nat} (h : n < 60) : ¬ nI n = -2 := fun z => by
  have := congrArg Int32.toInt z
  rw [nI_toInt (by omega)] at this
  have e : (-2 : Int32).toInt = -2 := by decide
  omega
theorem mPl_cap : ∀ a, a < 5 → ∀ b, b < 5 → ∀ c, c < 61 → nI c < mPl (nI a) (nI b) → c + 1 ≤ (mPl (nI a) (nI b)).toNatClampNeg := by decide +kernel
theorem zBt.fit {S S' : zS} {X Y : zX} (h : zBt S X) {i a : Nat} (hi : i < mN X) (ha : a < mN X) (hx : X 5 i = -1) (hm : ¬ mPl (X 2 a) (X 2 i) = 0) (hc : nI ((S.K a).countP (fun q => decide (X 2 q = X 2 i))) < mPl (X 2 a) (X 2 i)) (h1 : Y 1 = X 1) (h2 : Y 2 = X 2) (h5 : Y 5 = zu X 5 i (nI a) 5) (hK : S'.K = va_up S.K a (S.K a ++ [i])) : zBt S' Y := by
  have hn := h.1.1.2
  have e1 : mN Y = mN X := by unfold mN; rw [h1]
  have hI1 : MH (zu X 5 i (nI a)) := h.1.five (Or.inr (Or.inr ⟨a, rfl, ha, mPl_lt h.1 hi ha hm⟩))
  have y5 : ∀ p, Y 5 p = if p = i then nI a else X 5 p := fun p => by
    rw [h5]
    by_cases c : p = i
    · subst c; rw [zu_s, if_pos rfl]
    · rw [zu_n _ _ _ _ (fun z => c z.2), if_neg c]
  have hni : ∀ b, b < mN X → i ∉ S.K b := fun b hb z => by
    have := (h.hst hb z).2.1
    rw [hx] at this
    exact nI_nm1 (by omega) this.symm
  refine ⟨hI1.cg (by rw [h1, zu_row_ne _ _ _ (by decide)]) (by rw [h2, zu_row_ne _ _ _ (by decide)]) h5, fun p hp hp5 => ?_, fun b hb => ?_, fun b hb k hk => ?_⟩
  · rw [e1] at hp
    rw [h2]
    unfold mH
    rw [y5] at hp5 ⊢
    by_cases c : p = i
    · rw [if_pos c, c, nI_clamp (by omega)]; exact hm
    · rw [if_neg c] at hp5 ⊢; exact h.2.1 p hp hp5
  · rw [e1] at hb ⊢
    rw [hK]
    by_cases c : b = a
    · subst c
      rw [va_up_self]
      obtain ⟨g1, g2⟩ := h.2.2.1 b hb
      refine ⟨List.nodup_append.mpr ⟨g1, by simp, fun x hx2 y hy z => ?_⟩, fun q => ?_⟩
      · rw [List.mem_singleton.mp hy] at z; rw [z] at hx2; exact hni b hb hx2
      · rw [List.mem_append, List.mem_singleton, g2 q, y5]
        constructor
        · rintro (⟨z1, z2⟩ | z)
          · refine ⟨z1, ?_⟩
            rw [if_neg (fun y => by rw [y, hx] at z2; exact nI_nm1 (by omega) z2.symm)]; exact z2
          · rw [z, if_pos rfl]; exact ⟨hi, rfl⟩
        · rintro ⟨z1, z2⟩
          by_cases y : q = i
          · exact Or.inr y
          · rw [if_neg y] at z2; exact Or.inl ⟨z1, z2⟩
    · rw [va_up_ne _ _ c]
      obtain ⟨g1, g2⟩ := h.2.2.1 b hb
      refine ⟨g1, fun q => ?_⟩
      rw [g2 q, y5]
      by_cases y : q = i
      · rw [y, if_pos rfl, hx]
        exact ⟨fun z => absurd z.2.symm (nI_nm1 (by omega)), fun z => absurd (nI_inj60 (by omega) (by omega) z.2) (fun w => c w.symm)⟩
      · rw [if_neg y]
  · rw [e1] at hb
    rw [hK, h2]
    by_cases c : b = a
    · subst c
      rw [va_up_self, List.countP_append]
      have old := h.2.2.2 b hb k hk
      have ei := h.1.2.1 i hi
      have eb := h.1.2.1 b hb
      by_cases d : X 2 i = nI k
      · rw [← d]
        have hl := (h.ko b hb).1
        have hcl : (S.K b).countP (fun q => decide (X 2 q = X 2 i)) ≤ (S.K b).length := List.countP_le_length
        have e3 := ei.1
        rw [eb.1, e3] at hc ⊢
        have := mPl_cap (mK X b) (by omega) (mK X i) (by omega) _ (by rw [e3] at hcl; omega) hc
        have e4 : [i].countP (fun q => decide (X 2 q = nI (mK X i))) = 1 := by rw [List.countP_cons_of_pos (by rw [e3]; simp)]; rfl
        rw [e4]; exact this
      · have e4 : [i].countP (fun q => decide (X 2 q = nI k)) = 0 := by rw [List.countP_cons_of_neg (by simpa using d)]; rfl
        rw [e4]; exact old
    · rw [va_up_ne _ _ c]; exact h.2.2.2 b hb k hk
theorem zBt.take {S S' : zS} {X Y : zX} (h : zBt S X) {i : Nat} (hi : i < mN X) (hx : ¬ X 5 i < 0) (h1 : Y 1 = X 1) (h2 : Y 2 = X 2) (h5 : Y 5 = zu X 5 i (-1) 5) (hK : S'.K = va_up S.K (mH X i) ((S.K (mH X i)).erase i)) : zBt S' Y := by
  have hn := h.1.1.2
  have e1 : mN Y = mN X := by unfold mN; rw [h1]
  have hI1 : MH (zu X 5 i (-1)) := h.1.five (Or.inl rfl)
  obtain ⟨x5, ha, -⟩ := h.1.host hi hx
  obtain ⟨a, ea⟩ : ∃ a, a = mH X i := ⟨_, rfl⟩
  rw [← ea] at x5 ha hK
  have y5 : ∀ p, Y 5 p = if p = i then -1 else X 5 p := fun p => by
    rw [h5]
    by_cases c : p = i
    · subst c; rw [zu_s, if_pos rfl]
    · rw [zu_n _ _ _ _ (fun z => c z.2), if_neg c]
  refine ⟨hI1.cg (by rw [h1, zu_row_ne _ _ _ (by decide)]) (by rw [h2, zu_row_ne _ _ _ (by decide)]) h5, fun p hp hp5 => ?_, fun b hb => ?_, fun b hb k hk => ?_⟩
  · rw [e1] at hp
    rw [h2]
    unfold mH
    rw [y5] at hp5 ⊢
    by_cases c : p = i
    · rw [if_pos c] at hp5; exact absurd (by decide) hp5
    · rw [if_neg c] at hp5 ⊢; exact h.2.1 p hp hp5
  · rw [e1] at hb ⊢
    rw [hK]
    obtain ⟨g1, g2⟩ := h.2.2.1 b hb
    by_cases c : b = a
    · subst c
      rw [va_up_self]
      refine ⟨List.Nodup.sublist List.erase_sublist g1, fun q => ?_⟩
      rw [List.Nodup.mem_erase_iff g1, g2 q, y5]
      by_cases y : q = i
      · rw [if_pos y]
        exact ⟨fun z => absurd y z.1, fun z => absurd z.2.symm (nI_nm1 (by omega))⟩
      · rw [if_neg y]; exact ⟨fun z => z.2, fun z => ⟨y, z⟩⟩
    · rw [va_up_ne _ _ c]
      refine ⟨g1, fun q => ?_⟩
      rw [g2 q, y5]
      by_cases y : q = i
      · rw [y, if_pos rfl, x5]
        exact ⟨fun z => absurd (nI_inj60 (by omega) (by omega) z.2) (fun w => c w.symm), fun z => absurd z.2.symm (nI_nm1 (by omega))⟩
      · rw [if_neg y]
  · rw [e1] at hb
    rw [hK, h2]
    by_cases c : b = a
    · subst c
      rw [va_up_self]
      exact Nat.le_trans (List.Sublist.countP_le List.erase_sublist) (h.2.2.2 b hb k hk)
    · rw [va_up_ne _ _ c]; exact h.2.2.2 b hb k hk
theorem zBt.scrap {S S' : zS} {X Y : zX} (h : zBt S X) {i : Nat} (hx : X 5 i = -1) (h1 : Y 1 = X 1) (h2 : Y 2 = X 2) (h5 : Y 5 = zu X 5 i (-2) 5) (hK : S'.K = S.K) : zBt S' Y := by
  have hn := h.1.1.2
  have e1 : mN Y = mN X := by unfold mN; rw [h1]
  have hI1 : MH (zu X 5 i (-2)) := h.1.five (Or.inr (Or.inl rfl))
  have y5 : ∀ p, Y 5 p = if p = i then -2 else X 5 p := fun p => by
    rw [h5]
    by_cases c : p = i
    · subst c; rw [zu_s, if_pos rfl]
    · rw [zu_n _ _ _ _ (fun z => c z.2), if_neg c]
  refine ⟨hI1.cg (by rw [h1, zu_row_ne _ _ _ (by decide)]) (by rw [h2, zu_row_ne _ _ _ (by decide)]) h5, fun p hp hp5 => ?_, fun b hb => ?_, fun b hb k hk => ?_⟩
  · rw [e1] at hp
    rw [h2]
    unfold mH
    rw [y5] at hp5 ⊢
    by_cases c : p = i
    · rw [if_pos c] at hp5; exact absurd (by decide) hp5
    · rw [if_neg c] at hp5 ⊢; exact h.2.1 p hp hp5
  · rw [e1] at hb ⊢
    rw [hK]
    obtain ⟨g1, g2⟩ := h.2.2.1 b hb
    refine ⟨g1, fun q => ?_⟩
    rw [g2 q, y5]
    by_cases y : q = i
    · rw [y, if_pos rfl, hx]
      exact ⟨fun z => absurd z.2.symm (nI_nm1 (by omega)), fun z => absurd z.2.symm (nI_nm2 (by omega))⟩
    · rw [if_neg y]
  · rw [e1] at hb
    rw [hK, h2]; exact h.2.2.2 b hb k hk
theorem zBt.new {S S' : zS} {X Y : zX} (h : zBt S X) {kd : Nat} (hkd : kd ≤ 4) (h60 : mN X < 60) (h1 : Y 1 0 = nI (mN X + 1)) (h2 : ∀ p, Y 2 p = if p = mN X then nI kd else X 2 p) (h5 : ∀ p, Y 5 p = if p = mN X then -1 else X 5 p) (hK : S'.K = va_up S.K (mN X) []) : zBt S' Y := by
  have e1 : mN Y = mN X + 1 := by rw [show mN Y = (Y 1 0).toNatClampNeg from rfl, h1]; exact nI_clamp (by omega)
  have o2 : ∀ p, p < mN X → Y 2 p = X 2 p := fun p hp => by rw [h2, if_neg (by omega)]
  have o5 : ∀ p, p < mN X → Y 5 p = X 5 p := fun p hp => by rw [h5, if_neg (by omega)]
  have ok : ∀ p, p < mN X → mK Y p = mK X p := fun p hp => by unfold mK; rw [o2 p hp]
  have oh : ∀ p, p < mN X → mH Y p = mH X p := fun p hp => by unfold mH; rw [o5 p hp]
  have n5 : Y 5 (mN X) = -1 := by rw [h5, if_pos rfl]
  have hcase : ∀ p, p < mN X + 1 → p < mN X ∨ p = mN X := fun p hp => by omega
  have hk0 : ∀ q b, b < mN X → q ∈ S.K b → q < mN X := fun q b hb hq => (h.hst hb hq).1
  refine ⟨⟨⟨by rw [e1]; exact h1, by omega⟩, fun p hp => ?_, fun p hp => ?_⟩, fun p hp hp5 => ?_, fun b hb => ?_, fun b hb k hk => ?_⟩
  · rw [e1] at hp
    rcases hcase p hp with c | c
    · rw [o2 p c, ok p c]; exact h.1.2.1 p c
    · subst c
      have e : Y 2 (mN X) = nI kd := by rw [h2, if_pos rfl]
      have e2 : mK Y (mN X) = kd := by unfold mK; rw [e]; exact nI_clamp (by omega)
      rw [e, e2]; exact ⟨rfl, hkd⟩
  · rw [e1] at hp
    rcases hcase p hp with c | c
    · rw [o5 p c]
      rcases h.1.2.2 p c with z | z | ⟨z1, z2, z3⟩
      · exact Or.inl z
      · exact Or.inr (Or.inl z)
      · refine Or.inr (Or.inr ?_)
        rw [oh p c, ok p c, ok _ z2, e1]
        exact ⟨z1, by omega, z3⟩
    · subst c; exact Or.inl n5
  · rw [e1] at hp
    rcases hcase p hp with c | c
    · rw [o5 p c] at hp5
      have hh := (h.1.host c hp5).2.1
      rw [oh p c, o2 p c, o2 _ hh]; exact h.2.1 p c hp5
    · subst c; rw [n5] at hp5; exact absurd (by decide) hp5
  · rw [e1] at hb ⊢
    rw [hK]
    rcases hcase b hb with c | c
    · rw [va_up_ne _ _ (by omega)]
      obtain ⟨g1, g2⟩ := h.2.2.1 b c
      refine ⟨g1, fun q => ?_⟩
      rw [g2 q]
      constructor
      · rintro ⟨z1, z2⟩; exact ⟨by omega, by rw [o5 q z1]; exact z2⟩
      · rintro ⟨z1, z2⟩
        rcases hcase q z1 with d | d
        · rw [o5 q d] at z2; exact ⟨d, z2⟩
        · subst d; rw [n5] at z2; exact absurd z2.symm (nI_nm1 (by omega))
    · subst c
      rw [va_up_self]
      refine ⟨List.nodup_nil, fun q => ⟨fun z => absurd z List.not_mem_nil, fun ⟨z1, z2⟩ => ?_⟩⟩
      rcases hcase q z1 with d | d
      · rw [o5 q d] at z2
        rcases h.1.2.2 q d with z | z | ⟨y1, y2, y3⟩
        · rw [z] at z2; exact absurd z2.symm (nI_nm1 (by omega))
        · rw [z] at z2; exact absurd z2.symm (nI_nm2 (by omega))
        · rw [y1] at z2; exact absurd (nI_inj60 (by omega) (by omega) z2) (by omega)
      · subst d; rw [n5] at z2; exact absurd z2.symm (nI_nm1 (by omega))
  · rw [e1] at hb
    rw [hK]
    rcases hcase b hb with c | c
    · rw [va_up_ne _ _ (by omega), o2 b c]
      have e : (S.K b).countP (fun q => decide (Y 2 q = nI k)) = (S.K b).countP (fun q => decide (X 2 q = nI k)) := List.countP_congr (fun q hq => by rw [o2 q (hk0 q b c hq)])
      rw [e]; exact h.2.2.2 b c k hk
    · subst c; rw [va_up_self]; exact Nat.zero_le _
