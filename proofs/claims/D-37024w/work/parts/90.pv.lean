/-! turn keeps the invariant -/
theorem zIv.turn {t : Nat} {S : zS} {X : zX} (h : zIv t S X) {i : Nat} (hi : i < mN X) (h2 : X 2 i = 2) (hc : 2 ≤ mIn X (nI i) 3) : zIv (t + 1) S (mTu (zu X 0 0 0) (mWo X (nI i) false).toNatClampNeg (mWo X (nI i) true).toNatClampNeg).2 := by
  have hn := h.1.1.1.2
  have hc2 : (S.K i).countP (fun q => decide (X 2 q = 3)) = 2 := by
    have a1 := h.1.cn hi (show ¬ (3 : Int32) = -1 by decide)
    have a2 := h.1.2.2.2 i hi 3 (by decide)
    rw [h2] at a2
    have a3 : (mPl 2 (nI 3)).toNatClampNeg = 2 := by decide
    have a4 : (S.K i).countP (fun q => decide (X 2 q = nI 3)) = (S.K i).countP (fun q => decide (X 2 q = 3)) := rfl
    omega
  obtain ⟨u, v, hf, huv, ⟨hu1, hu2, hu3⟩, ⟨hv1, hv2, hv3⟩, hall⟩ := zfil2 h.1 hi hc2
  obtain ⟨l, hl, hz⟩ := ztn_eq h.1 hi h2 hf huv
  obtain ⟨-, hk⟩ := zturn h.1 i hi h2 hc2
  rw [hz] at hk
  have hkeep : ∀ a b k, k ≠ 0 → k ≠ 13 → k ≠ 14 → (mTu (zu X 0 0 0) a b).2 k = X k := fun a b k h0 h13 h14 => by
    show zu (zu (mTu1 (zu X 0 0 0) a b) 13 a _) 13 b _ k = X k
    rw [zu_row_ne _ _ _ h13, zu_row_ne _ _ _ h13]
    show (m_trues (m_trues (zu X 0 0 0) a).2 b).2 k = X k
    rw [m_trues_keep _ _ h13 h14, m_trues_keep _ _ h13 h14, zu_row_ne _ _ _ h0]
  have e := hkeep (mWo X (nI i) false).toNatClampNeg (mWo X (nI i) true).toNatClampNeg
  generalize (mTu (zu X 0 0 0) (mWo X (nI i) false).toNatClampNeg (mWo X (nI i) true).toNatClampNeg).2 = Y at *
  have hvu : ¬ v = u := fun z => huv z.symm
  have e13 : ∀ p, Y 13 p = if p = u ∨ p = v then l else X 13 p := fun p => by
    rw [hk 13 (by decide) (by decide)]
    show zu (zu (zY2 X u v) 13 u l) 13 v l 13 p = _
    rw [zY2_eq X huv]
    by_cases a : p = v
    · rw [a, zu_s, if_pos (Or.inr rfl)]
    · rw [zu_n _ _ _ _ (fun z => a z.2)]
      by_cases b : p = u
      · rw [b, zu_s, if_pos (Or.inl rfl)]
      · rw [if_neg (fun z => z.elim b a), zu_n _ _ _ _ (fun z => b z.2), zu_n _ _ _ _ (fun z => by omega), zu_n _ _ _ _ (fun z => a z.2), zu_n _ _ _ _ (fun z => by omega), zu_n _ _ _ _ (fun z => b z.2)]
  have e14 : ∀ p, Y 14 p = if p = u ∨ p = v then 300 else X 14 p := fun p => by
    rw [hk 14 (by decide) (by decide)]
    show zu (zu (zY2 X u v) 13 u l) 13 v l 14 p = _
    rw [zY2_eq X huv, zu_n _ _ _ _ (fun z => by omega), zu_n _ _ _ _ (fun z => by omega)]
    by_cases a : p = v
    · rw [a, zu_s, if_pos (Or.inr rfl)]
    · rw [zu_n _ _ _ _ (fun z => a z.2), zu_n _ _ _ _ (fun z => by omega)]
      by_cases b : p = u
      · rw [b, zu_s, if_pos (Or.inl rfl)]
      · rw [if_neg (fun z => z.elim b a), zu_n _ _ _ _ (fun z => b z.2), zu_n _ _ _ _ (fun z => by omega)]
  have e1 : mN Y = mN X := by unfold mN; rw [e 1 (by omega) (by omega) (by omega)]
  have cut : ∀ {p f d : Nat}, X 14 p = nI f → X 13 p = nI d → f ≤ 300 → 2 * (300 - f) ≤ d → X 13 p - 2 * (300 - X 14 p) = nI (d - 2 * (300 - f)) := fun {p f d} a b c g => by
    rw [a, b, show (300 : Int32) = nI 300 from rfl, zsub c, show (2 : Int32) = nI 2 from rfl, pk_mul, zsub g]
  have low : ∀ {a b : Nat} (m : Nat), m ≤ a → m ≤ b → zY2 X u v 13 u = nI a → zY2 X u v 13 v = nI b → a ≤ 9000 → b ≤ 9000 → ∃ k, l = nI k ∧ m ≤ k ∧ k ≤ 9000 := fun {a b} m c d ea eb ga gb => by
    rw [ea, eb] at hl
    by_cases z : nI b < nI a
    · rw [if_pos z] at hl; exact ⟨b, hl, d, gb⟩
    · rw [if_neg z] at hl; exact ⟨a, hl, c, ga⟩
  obtain ⟨y1, y2⟩ := zY2_13 X huv
  refine h.rows (fun k hk => e k (by omega) (by omega) (by omega)) (h.2.1.cg (fun k hk => e k (by omega) (by omega) (by omega))) (fun p hp => ?_) (fun t ht hy => ?_) (h.2.2.2.2.1.cg (e 1 (by omega) (by omega) (by omega)) (e 16 (by omega) (by omega) (by omega)) (e 17 (by omega) (by omega) (by omega)))
    (h.2.2.2.2.2.1.cg (e 1 (by omega) (by omega) (by omega)) (e 9 (by omega) (by omega) (by omega)) (e 18 (by omega) (by omega) (by omega))) (h.2.2.2.2.2.2.1.cg (Nat.le_succ t) (e 1 (by omega) (by omega) (by omega)) (e 6 (by omega) (by omega) (by omega)) (e 15 (by omega) (by omega) (by omega)) (e 19 (by omega) (by omega) (by omega)))
  · rw [e1] at hp
    rw [e13, e14]
    by_cases c : p = u ∨ p = v
    · rw [if_pos c, if_pos c]
      obtain ⟨f1, d1, a1, b1, c1, g1, j1, k1⟩ := h.2.2.1 u hu1
      obtain ⟨f2, d2, a2, b2, c2, g2, j2, k2⟩ := h.2.2.1 v hv1
      obtain ⟨k, x1, x2, x3⟩ := low 8300 (by omega) (by omega) (y1.trans (cut a1 b1 g1 (by omega))) (y2.trans (cut a2 b2 g2 (by omega))) (by omega) (by omega)
      exact ⟨300, k, rfl, x1, by omega, by omega, x3, by omega⟩
    · rw [if_neg c, if_neg c]
      exact h.2.2.1 p hp
  · rw [e1] at ht
    rw [e 11 (by omega) (by omega) (by omega)] at hy
    obtain ⟨k1, k2, k3⟩ := h.2.2.2.1 t ht hy
    refine ⟨by rw [e 2 (by omega) (by omega) (by omega)]; exact k1, k2, fun p hp hd => ?_⟩
    rw [e1] at hp
    rw [mHd_cg (e 5 (by omega) (by omega) (by omega))] at hd
    obtain ⟨j1, j2⟩ := k3 p hp hd
    refine ⟨by rw [e 9 (by omega) (by omega) (by omega)]; exact j1, fun h3 => ?_⟩
    rw [e 2 (by omega) (by omega) (by omega)] at h3
    by_cases c : p = u ∨ p = v
    · have hni : ¬ nI i < 0 := Int32.not_lt.mpr (nI_pos' (by omega))
      have huv2 : mHd X u = mHd X v := by
        show (if X 5 u < 0 then u else mHf X 4 (mH X u)) = (if X 5 v < 0 then v else mHf X 4 (mH X v))
        rw [hu2, hv2, if_neg hni, if_neg hni]
        unfold mH; rw [hu2, hv2]
      have hdu : mHd X u = t := by
        rcases c with c | c
        · rw [← c]; exact hd
        · rw [huv2, ← c]; exact hd
      obtain ⟨f1, d1, a1, b1, c1, g1, j1, k1⟩ := (k3 u hu1 hdu).2 hu3
      obtain ⟨f2, d2, a2, b2, c2, g2, j2, k2⟩ := (k3 v hv1 (huv2.symm.trans hdu)).2 hv3
      obtain ⟨k, x1, x2, x3⟩ := low 8400 (by omega) (by omega) (y1.trans (cut a1 b1 g1 (by omega))) (y2.trans (cut a2 b2 g2 (by omega))) (by omega) (by omega)
      exact ⟨300, k, by rw [e14, if_pos c]; rfl, by rw [e13, if_pos c]; exact x1, by omega, by omega, x3, by omega⟩
    · exact (j2 h3).cg (by rw [e13, if_neg c]) (by rw [e14, if_neg c])
