theorem zNX_12 {W : List zC3} (X : zX) {i : Nat} {e : zC3} (h : W[i]? = some e) : ∀ j, i < j → j ≤ W.length → zNX W X j 12 e.2.1 = 1 := by
  intro j
  induction j with
  | zero => intro h1; omega
  | succ j ih =>
    intro h1 h2
    have he := List.getElem?_eq_getElem (show j < W.length by omega)
    rw [zNX_s he]
    by_cases c : e.2.1 = (W[j]).2.1
    · rw [c]; exact zu_s _ 12 _ 1
    · rw [zu_n _ _ _ _ (fun z => c z.2)]
      refine ih ?_ (by omega)
      apply Classical.byContradiction
      intro z
      have hij : i = j := by omega
      subst hij
      have := h.symm.trans he
      exact c (by rw [Option.some.inj this])
theorem zNS_rd {S1 : zS} {P : zX} {n : Nat} (hn : S1.Wt.length = n) (hb : ∀ k, k < n → (S1.bf k).toNatClampNeg = (P 29 k).toNatClampNeg) (hW27 : ∀ (k : Nat) (e : zC3), S1.Wt[k]? = some e → P 27 k = nI e.2.1 ∧ e.2.1 < 60) (hPn : mW P = n) (hB : mBst P) (h0 : ∀ r, r < 3 → P 31 r = 0) (hR0 : ∀ r, r < 3 → S1.Rd r = []) :
    ∀ j, j ≤ n → ∀ r, r < 3 → ((zNS S1 j).Rd r).length = zct (fun k => decide ((P 29 k).toNatClampNeg = r)) j ∧ ∀ (k : Nat) (e : zC3), ((zNS S1 j).Rd r)[k]? = some e → mNg P j 32 (4 * r + k) = nI e.2.1 ∧ ∃ i, i < j ∧ S1.Wt[i]? = some e ∧ (P 29 i).toNatClampNeg = r ∧ zct (fun k => decide ((P 29 k).toNatClampNeg = r)) i = k := by
  intro j
  induction j with
  | zero =>
    intro _ r hr
    show (S1.Rd r).length = 0 ∧ ∀ (k : Nat) (e : zC3), (S1.Rd r)[k]? = some e → _
    rw [hR0 r hr]
    exact ⟨rfl, fun k e he => by simp at he⟩
  | succ j ih =>
    intro hj r hr
    obtain ⟨ih1, ih2⟩ := ih (by omega) r hr
    have he := List.getElem?_eq_getElem (show j < S1.Wt.length by omega)
    obtain ⟨ej, eej⟩ : ∃ ej, ej = S1.Wt[j] := ⟨_, rfl⟩
    rw [← eej] at he
    obtain ⟨d1, d2⟩ := hB.1 j (by omega)
    obtain ⟨rj, erj⟩ : ∃ rj, rj = (P 29 j).toNatClampNeg := ⟨_, rfl⟩
    rw [← erj] at d1 d2
    obtain ⟨jh1, -⟩ := ih (by omega) rj d2
    obtain ⟨m1, m2⟩ := mNg_R4 hB h0 (show j < mW P by omega)
    rw [← erj] at m1 m2
    have hmR : mR (mNg P j) rj = zct (fun k => decide ((P 29 k).toNatClampNeg = rj)) j := by
      unfold mR
      rw [mNg_R hB h0 j (by omega) rj d2]
      exact nI_clamp (by have := zct_le (fun k => decide ((P 29 k).toNatClampNeg = rj)) j; have : n < 2 ^ 31 := by rw [← hPn]; exact zcl _
                         omega)
    have hs : zNS S1 (j + 1) = (zNS S1 j).rS rj ((zNS S1 j).Rd rj ++ [ej]) := zNS_s he (by rw [hb j (by omega), erj])
    have hct : ∀ r, zct (fun k => decide ((P 29 k).toNatClampNeg = r)) (j + 1) = zct (fun k => decide ((P 29 k).toNatClampNeg = r)) j + (if rj = r then 1 else 0) := fun r => by
      show zct _ j + (if decide ((P 29 j).toNatClampNeg = r) = true then 1 else 0) = _
      rw [← erj]
      by_cases c : rj = r
      · rw [decide_eq_true c, if_pos rfl, if_pos c]
      · rw [decide_eq_false c, if_neg (by decide), if_neg c]
    have hmg : ∀ i, mNg P (j + 1) 32 i = if i = 4 * rj + zct (fun k => decide ((P 29 k).toNatClampNeg = rj)) j then nI ej.2.1 else mNg P j 32 i := fun i => by
      show mNg1 (mNg P j) j 32 i = _
      unfold mNg1
      have e29 : mNg P j 29 = P 29 := mNg_cg P (by decide) (by decide) (by decide) j
      rw [zu_row_ne _ _ _ (by decide), zu_row_ne _ _ _ (by decide), e29, ← erj, hmR]
      have hw : mWt (mNg P j) j = ej.2.1 := by
        unfold mWt
        obtain ⟨y1, y2⟩ := hW27 j ej he
        rw [mNg_cg P (by decide) (by decide) (by decide), y1]
        exact nI_clamp (by omega)
      rw [hw]
      by_cases c : i = 4 * rj + zct (fun k => decide ((P 29 k).toNatClampNeg = rj)) j
      · subst c; rw [zu_s, if_pos rfl]
      · rw [zu_n _ _ _ _ (fun z => c z.2), if_neg c]
    rw [hs, hct]
    show (va_up (zNS S1 j).Rd rj ((zNS S1 j).Rd rj ++ [ej]) r).length = _ ∧ ∀ (k : Nat) (e : zC3), (va_up (zNS S1 j).Rd rj ((zNS S1 j).Rd rj ++ [ej]) r)[k]? = some e → _
    have hl4 : zct (fun k => decide ((P 29 k).toNatClampNeg = r)) j ≤ 4 := by
      have h1 := hB.2 r hr
      have h2 := zct_mono (fun k => decide ((P 29 k).toNatClampNeg = r)) (show j ≤ mW P by omega)
      omega
    by_cases c : r = rj
    · subst c
      rw [va_up_self, if_pos rfl]
      refine ⟨by rw [List.length_append, ih1]; rfl, fun k e hk => ?_⟩
      by_cases d : k < ((zNS S1 j).Rd r).length
      · rw [List.getElem?_append_left d] at hk
        obtain ⟨g1, i, g2, g3, g4, g5⟩ := ih2 k e hk
        exact ⟨by rw [hmg, if_neg (by omega)]; exact g1, i, by omega, g3, g4, g5⟩
      · rw [List.getElem?_append_right (by omega)] at hk
        have hkk : k - ((zNS S1 j).Rd r).length = 0 := by
          apply Classical.byContradiction
          intro z
          rw [List.getElem?_eq_none (by show 1 ≤ _; omega)] at hk; cases hk
        rw [hkk] at hk
        have hk : some ej = some e := hk
        cases hk
        refine ⟨by rw [hmg, if_pos (by omega)], j, by omega, he, erj.symm, by omega⟩
    · rw [va_up_ne _ _ c, if_neg (fun z => c z.symm)]
      refine ⟨ih1, fun k e hk => ?_⟩
      obtain ⟨g1, i, g2, g3, g4, g5⟩ := ih2 k e hk
      have hk4 := (List.getElem?_eq_some_iff.mp hk).1
      exact ⟨by rw [hmg, if_neg (by omega)]; exact g1, i, by omega, g3, g4, g5⟩
theorem zQu.night {S : zS} {X : zX} (hN : mN X ≤ 60) (h : zQu S X) (h0 : ∀ r, r < 3 → mR X r = 0) {q : Nat} {Y : zX} (hY : Y = zu (mNg (m_plans (zu X 0 0 0)).2 (mW X)) 26 0 0) : zQu ((zNS (S.gv (zsr S true)) S.Wt.length).nw q) Y := by
  obtain ⟨s1, s2, s3, s4⟩ := zsearch h.1.2.2 (by rw [h.1.2.2]; exact h.1.2.1) (h.wt hN) true
  obtain ⟨P, eP⟩ : ∃ P, P = (m_plans (zu X 0 0 0)).2 := ⟨_, rfl⟩
  rw [← eP] at s2 s3 s4 hY
  have hP : ∀ k, k ≠ 0 → k ≠ 29 → k ≠ 30 → P k = X k := fun k a b c => by rw [eP]; exact (mPs_pr (zu X 0 0 0) _ k b c).trans (zu_row_ne _ _ _ a)
  have hn := h.1.2.2
  have hPn : mW P = S.Wt.length := by rw [hn]; unfold mW; rw [hP 26 (by decide) (by decide) (by decide)]
  have hc29 : ∀ k, k < S.Wt.length → P 29 k = nI (P 29 k).toNatClampNeg ∧ (P 29 k).toNatClampNeg < 3 := fun k hk => by
    obtain ⟨r, hr, e⟩ := s3 k hk
    rw [e, nI_clamp (by omega)]; exact ⟨rfl, hr⟩
  have hB : mBst P := ⟨fun k hk => hc29 k (by rw [← hPn]; exact hk), fun r hr => by rw [hPn]; exact s4 r hr⟩
  have hP31 : ∀ r, r < 3 → P 31 r = 0 := fun r hr => by
    rw [hP 31 (by decide) (by decide) (by decide), (h.2.2.1 r hr).1, h.rl r hr, h0 r hr]; rfl
  have hR0 : ∀ r, r < 3 → (S.gv (zsr S true)).Rd r = [] := fun r hr => by
    show S.Rd r = []
    exact List.length_eq_zero_iff.mp (by rw [h.rl r hr, h0 r hr])
  have hW27 : ∀ (k : Nat) (e : zC3), (S.gv (zsr S true)).Wt[k]? = some e → P 27 k = nI e.2.1 ∧ e.2.1 < 60 := fun k e he => by
    rw [hP 27 (by decide) (by decide) (by decide)]; exact h.we hN k e he
  have key := zNS_rd (S1 := S.gv (zsr S true)) (P := P) (n := S.Wt.length) rfl (fun k hk => congrArg Int32.toNatClampNeg (s2 k hk)) hW27 hPn hB hP31 hR0 S.Wt.length (Nat.le_refl _)
  have hrow := mNg_row (W := S.Wt) (X := X) (P := P) (fun k a b => hP k a (by omega) (by omega)) (hP 27 (by decide) (by decide) (by decide)) (h.we hN) S.Wt.length (Nat.le_refl _)
  rw [← hn] at hY
  have eo : ∀ k, k ≠ 26 → Y k = mNg P S.Wt.length k := fun k hk => by rw [hY]; exact zu_row_ne _ _ _ hk
  have e26 : Y 26 0 = 0 := by rw [hY]; exact zu_s _ 26 0 0
  have eW : mW Y = 0 := by rw [show mW Y = (Y 26 0).toNatClampNeg from rfl, e26]; decide
  have eN : mN Y = mN X := by unfold mN; rw [eo 1 (by decide), hrow 1 (by decide) (by decide), zNX_ne _ _ (by decide)]
  have e28 : Y 28 = X 28 := by rw [eo 28 (by decide), mNg_cg P (by decide) (by decide) (by decide), hP 28 (by decide) (by decide) (by decide)]
  refine ⟨⟨by rw [eW, e26]; rfl, by omega, by rw [eW]; rfl⟩, ⟨fun k e he => absurd (show ([] : List zC3)[k]? = some e from he) (by simp), fun i j ei ej hi => absurd (show ([] : List zC3)[i]? = some ei from hi) (by simp)⟩, fun r hr => ?_, fun r hr r2 hr2 i j ei ej hi hj hij => ?_⟩
  · obtain ⟨k1, k2⟩ := key r hr
    show Y 31 r = nI ((zNS (S.gv (zsr S true)) S.Wt.length).Rd r).length ∧ ((zNS (S.gv (zsr S true)) S.Wt.length).Rd r).length ≤ 4 ∧ ∀ (k : Nat) (e : zC3), ((zNS (S.gv (zsr S true)) S.Wt.length).Rd r)[k]? = some e → _
    rw [k1]
    refine ⟨by rw [eo 31 (by decide)]; exact mNg_R hB hP31 _ (by omega) r hr, s4 r hr, fun k e he => ?_⟩
    obtain ⟨g1, i, g2, g3, g4, g5⟩ := k2 k e he
    obtain ⟨y1, y2, y3, y4⟩ := h.2.1.1 i e g3
    refine ⟨by rw [eo 32 (by decide)]; exact g1, by rw [eN]; exact y2, by rw [e28]; exact y3, ?_⟩
    rw [eo 12 (by decide), hrow 12 (by decide) (by decide), zNX_12 (W := S.Wt) X (show S.Wt[i]? = some e from g3) _ g2 (Nat.le_refl _)]
    decide
  · have hi : ((zNS (S.gv (zsr S true)) S.Wt.length).Rd r)[i]? = some ei := hi
    have hj : ((zNS (S.gv (zsr S true)) S.Wt.length).Rd r2)[j]? = some ej := hj
    obtain ⟨-, a, a2, a3, a4, a5⟩ := (key r hr).2 i ei hi
    obtain ⟨-, b, b2, b3, b4, b5⟩ := (key r2 hr2).2 j ej hj
    have hab := h.2.1.2 a b ei ej a3 b3 hij
    subst hab
    have hrr : r = r2 := a4.symm.trans b4
    subst hrr
    exact ⟨rfl, a5.symm.trans b5⟩
