/-! for the public methods -/
theorem zin_c {v hi : Int32} {b : Nat} (hb : hi.toInt = (b : Int)) (h : zin v 0 hi = true) : v = nI v.toNatClampNeg ∧ v.toNatClampNeg ≤ b := by
  obtain ⟨k, hk, rfl⟩ := zin_n hb h
  have h31 : b < 2 ^ 31 := by have := hi.toInt_lt; omega
  rw [nI_clamp (by omega)]
  exact ⟨rfl, hk⟩
theorem zgt_nn {x : Int32} (h : ¬ x < 0) : x ≤ 0 ↔ x = 0 := ⟨fun h1 => Int32.le_antisymm h1 (Int32.not_lt.mp h), fun h1 => by rw [h1]; decide⟩
theorem zKi {X : zX} (hI : MH X) {p : Nat} (hp : p < mN X) : X 2 p < 3 ↔ ¬ (X 2 p = 3 ∨ X 2 p = 4) := by
  obtain ⟨e, h⟩ := hI.2.1 p hp
  rw [e]
  generalize mK X p = k at h
  have : ∀ k, k < 5 → (nI k < 3 ↔ ¬ (nI k = 3 ∨ nI k = 4)) := by decide
  exact this k (by omega)
theorem zSy.hidR {S : zS} {g : zG} {X Y : zX} {T : zT} (h : zSy S g X T) (e : ∀ k, k ≠ 0 → k < 23 → Y k = X k) : zSy S g Y T := by
  have hn : mN Y = mN X := by unfold mN; rw [e 1 (by decide) (by decide)]
  have hu : ∀ d, zuse Y d → zuse X d := fun d hd => by unfold zuse at hd ⊢; rw [hn] at hd; exact hd
  have ep : ∀ p, zpF S Y p = zpF S X p := fun p => by
    unfold zpF
    rw [e 2 (by decide) (by decide), e 3 (by decide) (by decide), e 4 (by decide) (by decide), e 5 (by decide) (by decide), e 6 (by decide) (by decide), e 7 (by decide) (by decide), e 8 (by decide) (by decide), e 9 (by decide) (by decide), e 10 (by decide) (by decide), e 18 (by decide) (by decide), e 19 (by decide) (by decide), e 13 (by decide) (by decide), e 14 (by decide) (by decide), e 15 (by decide) (by decide), e 17 (by decide) (by decide), e 16 (by decide) (by decide), e 11 (by decide) (by decide), e 12 (by decide) (by decide)]
  refine ⟨fun d hd => ?_, fun c d h1 h2 z => h.inj c d (hu c h1) (hu d h2) z, h.log, h.wt, h.rd⟩
  rw [h.cell d (hu d hd)]
  congr 1
  rcases (hu d hd).cs with h1 | ⟨p, hp, h1 | h1 | h1 | h1⟩
  · have h2 : d = 0 ∨ d = 1 ∨ d = 2 ∨ d = 3 ∨ d = 4 ∨ d = 5 ∨ d = 6 ∨ d = 7 ∨ d = 8 ∨ d = 9 ∨ d = 10 ∨ d = 11 ∨ d = 12 ∨ d = 13 := by omega
    rcases h2 with rfl | rfl | rfl | rfl | rfl | rfl | rfl | rfl | rfl | rfl | rfl | rfl | rfl | rfl
    · rw [zSc_0, zSc_0]
    · rw [zSc_1, zSc_1]
    · rw [zSc_2, zSc_2, hn]
    · rw [zSc_3, zSc_3, e 20 (by decide) (by decide)]
    · rw [zSc_4, zSc_4, e 21 (by decide) (by decide)]
    · rw [zSc_5, zSc_5, e 22 (by decide) (by decide)]
    · rw [zSc_6, zSc_6]
    · rw [zSc_7, zSc_7]
    · rw [zSc_8, zSc_8]
    · rw [zSc_9, zSc_9]
    · rw [zSc_10, zSc_10]
    · rw [zSc_11, zSc_11]
    · rw [zSc_12, zSc_12]
    · rw [zSc_13, zSc_13]
  · subst h1; rw [zSc_p, zSc_p, ep]
  · subst h1; rw [zSc_t, zSc_t]; unfold znw mH; rw [e 5 (by decide) (by decide)]
  · subst h1; rw [zSc_l, zSc_l]
  · subst h1; rw [zSc_k, zSc_k]
theorem m_holds_c (X : zX) (i : Nat) (v : Int32) : zu (m_holds X i) 0 0 v = m_holds (zu X 0 0 v) i := by
  unfold m_holds m_ends
  rw [zu_comm _ (show (11 : Nat) ≠ 0 by decide), zu_comm _ (show (9 : Nat) ≠ 0 by decide), mHd_w _ _ _ _ (by decide), mHd_w _ _ _ _ (by decide), mHd_w _ _ _ _ (by decide)]
/-- what the lists hold -/
theorem zSy.elW {S : zS} {g : zG} {X : zX} {T : zT} (h : zSy S g X T) : ∀ y ∈ S.Wt.map (fun e => some e.1), zEl T y := by
  intro y hy v hv
  obtain ⟨e, he, rfl⟩ := List.mem_map.mp hy
  cases hv
  exact Or.inl ⟨8, _, h.wt e he, by omega⟩
theorem zSy.elR {S : zS} {g : zG} {X : zX} {T : zT} (h : zSy S g X T) {r : Nat} (hr : r < 3) : ∀ y ∈ (S.Rd r).map (fun e => some e.1), zEl T y := by
  intro y hy v hv
  obtain ⟨e, he, rfl⟩ := List.mem_map.mp hy
  cases hv
  exact Or.inl ⟨8, _, h.rd r hr e he, by omega⟩
theorem zSy.elL {S : zS} {g : zG} {X : zX} {T : zT} (h : zSy S g X T) : ∀ y ∈ S.L.map (fun e => some e.1), zEl T y := by
  intro y hy v hv
  obtain ⟨e, he, rfl⟩ := List.mem_map.mp hy
  cases hv
  exact Or.inl ⟨5, _, h.log e he, by omega⟩
theorem zSy.elP {S : zS} {g : zG} {X : zX} {T : zT} (h : zSy S g X T) {i : Nat} (hi : i < mN X) : zEl T (some (S.pa i)) := by
  intro v hv
  cases hv
  exact Or.inl ⟨3, _, h.p hi, by omega⟩
theorem zSy.elK {S : zS} {g : zG} {X : zX} {T : zT} (h : zSy S g X T) (hC : zKo S X) {i : Nat} (hi : i < mN X) : ∀ y ∈ (S.K i).map (fun q => some (S.pa q)), zEl T y := by
  intro y hy
  obtain ⟨q, hq, rfl⟩ := List.mem_map.mp hy
  exact h.elP ((hC i hi).2 q hq)
theorem zSy.elTh {S : zS} {g : zG} {X : zX} {T : zT} (h : zSy S g X T) : ∀ y ∈ (List.range (mN X)).map (fun q => some (S.pa q)), zEl T y := by
  intro y hy
  obtain ⟨q, hq, rfl⟩ := List.mem_map.mp hy
  exact h.elP (List.mem_range.mp hq)
/-- the trails: short, and of parts -/
def zTo (S : zS) (X : zX) : Prop := ∀ p, p < mN X → (S.TL p).length ≤ 100 ∧ ∀ o ∈ S.TL p, ∀ q, o = some q → q < mN X
theorem zSy.elT {S : zS} {g : zG} {X : zX} {T : zT} (h : zSy S g X T) (hO : zTo S X) {i : Nat} (hi : i < mN X) : ∀ y ∈ (S.TL i).map (Option.map S.pa), zEl T y := by
  intro y hy
  obtain ⟨o, ho, rfl⟩ := List.mem_map.mp hy
  cases o with
  | none => intro v hv; cases hv
  | some q => exact h.elP ((hO i hi).2 _ ho q rfl)
theorem zfc_m {se : Int32} (h : zin se 0 3 = true) : zfc se = mFa se := by
  obtain ⟨k, hk, rfl⟩ := zin_n (b := 3) rfl h
  have : ∀ k, k < 4 → zfc (nI k) = mFa (nI k) := by decide
  exact this k (by omega)
theorem zlt_w {S : zS} {i k : Nat} {o : Option Nat} (h : (S.TL i)[k]? = some o) : k < (S.TL i).length := (List.getElem?_eq_some_iff.mp h).1
theorem m_plans_hid (X : zX) : ∀ k, k ≠ 0 → k < 23 → (m_plans (zu X 0 0 0)).2 k = X k := fun k h0 h1 => ((mPs_pr (zu X 0 0 0) _) k (by omega) (by omega)).trans (zu_row_ne _ _ _ h0)
/-- the reasons, and the part that bars -/
def zBB (S : zS) (X : zX) : Prop := ∀ t, t < mN X → X 2 t = 0 → (zre S X t 7 1 = 0 ∧ mBo X t = 0) ∨ ∃ r i, zre S X t 7 1 = r ∧ 1 ≤ r ∧ r ≤ 7 ∧ zfi (fun i => decide (mHd X i = t) && zBr S X i r) (mN X) 0 = some i ∧ mBo X t = nI (100 * r + i)
theorem zBB_100 : ∀ r, r < 8 → ∀ i, i < 60 → nI (100 * r + i) / 100 = nI r := by decide +kernel
theorem zBB_m : ∀ r, r < 8 → ∀ i, i < 60 → nI (100 * r + i) - nI (100 * r + i) / 100 * 100 = nI i := by decide +kernel
theorem zBB_nz : ∀ r, r < 8 → 1 ≤ r → ∀ i, i < 60 → ¬ nI (100 * r + i) = 0 := by decide +kernel
theorem zBB.bo {S : zS} {X : zX} (hI : MH X) (h : zBB S X) : ∀ t, t < mN X → X 2 t = 0 → mBo X t / 100 = nI (zre S X t 7 1) := by
  intro t ht h2
  rcases h t ht h2 with ⟨e1, e2⟩ | ⟨r, i, e1, h1, h7, e3, e4⟩
  · rw [e1, e2]; decide
  · have := (zfi_lt _ _ _ e3).1
    have := hI.1.2
    rw [e1, e4]; exact zBB_100 r (by omega) i (by omega)
theorem zm_fz {x : Int32} (h : x = 0 ∨ x = 1) : fits .boolean (.int x) = true := by rcases h with rfl | rfl <;> rfl
theorem zcn {x : Int32} (h : ¬ x < 0) : x = nI x.toNatClampNeg := by
  have e : (2147483647 : Int32).toInt = (2147483647 : Nat) := by decide
  have hm : x ≤ 2147483647 := Int32.le_iff_toInt_le.mpr (by rw [e]; have := x.toInt_lt; omega)
  obtain ⟨k, hk, e⟩ := nI_of2 e h hm
  rw [e, nI_clamp (by omega)]
