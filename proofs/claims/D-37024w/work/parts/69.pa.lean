/-! PURE: lists and counts -/
theorem zcp_one {L : List Nat} (h : L.Nodup) (g : Nat → Bool) (n : Nat) : L.countP (fun q => g q && decide (q = n)) = if (decide (n ∈ L) && g n) = true then 1 else 0 := by
  induction L with
  | nil => rfl
  | cons a L ih =>
    obtain ⟨h1, h2⟩ := List.nodup_cons.mp h
    rw [List.countP_cons, ih h2]
    by_cases e : a = n
    · subst e
      have : decide (a ∈ L) = false := decide_eq_false h1
      cases hg : g a <;> simp [this, hg]
    · have e2 : ¬ n = a := fun z => e z.symm
      cases hg : g n <;> simp [e, e2, hg]
theorem zcp_s (L : List Nat) (g : Nat → Bool) (n : Nat) : L.countP (fun q => g q && decide (q < n + 1)) = L.countP (fun q => g q && decide (q < n)) + L.countP (fun q => g q && decide (q = n)) := by
  induction L with
  | nil => rfl
  | cons a L ih =>
    rw [List.countP_cons, List.countP_cons, List.countP_cons, ih]
    have : (if (g a && decide (a < n + 1)) = true then 1 else 0) = (if (g a && decide (a < n)) = true then 1 else 0) + (if (g a && decide (a = n)) = true then 1 else (0 : Nat)) := by
      cases hg : g a
      · simp
      · by_cases h1 : a < n
        · have h2 : ¬ a = n := by omega
          have h3 : a < n + 1 := by omega
          simp [h1, h2, h3]
        · by_cases h2 : a = n
          · subst h2; simp
          · have h3 : ¬ a < n + 1 := by omega
            simp [h1, h2, h3]
    omega
theorem zcp_n {L : List Nat} (h : L.Nodup) (g : Nat → Bool) : ∀ n, L.countP (fun q => g q && decide (q < n)) = zct (fun p => decide (p ∈ L) && g p) n := by
  intro n
  induction n with
  | zero => simp [zct]
  | succ n ih => rw [zcp_s, ih, zcp_one h]; rfl
theorem zcp {L : List Nat} (h : L.Nodup) {n : Nat} {f : Nat → Bool} (hf : ∀ q, q ∈ L ↔ (q < n ∧ f q = true)) (g : Nat → Bool) : L.countP g = zct (fun p => f p && g p) n := by
  have e1 : L.countP g = L.countP (fun q => g q && decide (q < n)) := List.countP_congr (fun q hq => by simp [((hf q).mp hq).1])
  rw [e1, zcp_n h]
  have : ∀ m, m ≤ n → zct (fun p => decide (p ∈ L) && g p) m = zct (fun p => f p && g p) m := by
    intro m
    induction m with
    | zero => intro _; rfl
    | succ m ih =>
      intro hm
      unfold zct
      rw [ih (by omega)]
      have hd : decide (m ∈ L) = f m := by
        by_cases hx : f m = true
        · rw [hx, decide_eq_true ((hf m).mpr ⟨by omega, hx⟩)]
        · rw [Bool.eq_false_iff.mpr hx, decide_eq_false (fun z => hx ((hf m).mp z).2)]
      rw [hd]
  exact this n (Nat.le_refl _)
theorem zct_cg {f g : Nat → Bool} : ∀ n, (∀ p, p < n → f p = g p) → zct f n = zct g n := by
  intro n
  induction n with
  | zero => intro _; rfl
  | succ n ih => intro h; unfold zct; rw [ih (fun p hp => h p (by omega)), h n (by omega)]
theorem zln {L : List Nat} (h : L.Nodup) {n : Nat} {f : Nat → Bool} (hf : ∀ q, q ∈ L ↔ (q < n ∧ f q = true)) : L.length = zct f n := by
  have e := zcp h hf (fun _ => true)
  rw [List.countP_true] at e
  rw [e]
  exact zct_cg n (fun p _ => by simp)
/-! the tree -/
def zBt (S : zS) (X : zX) : Prop := MH X ∧ (∀ p, p < mN X → ¬ X 5 p < 0 → ¬ mPl (X 2 (mH X p)) (X 2 p) = 0) ∧ (∀ h, h < mN X → (S.K h).Nodup ∧ ∀ q, q ∈ S.K h ↔ (q < mN X ∧ X 5 q = nI h)) ∧ (∀ h, h < mN X → ∀ k, k < 5 → (S.K h).countP (fun q => decide (X 2 q = nI k)) ≤ (mPl (X 2 h) (nI k)).toNatClampNeg)
theorem zBt.mem {S : zS} {X : zX} (h : zBt S X) {p q : Nat} (hp : p < mN X) : q ∈ S.K p ↔ (q < mN X ∧ decide (X 5 q = nI p) = true) := by
  rw [(h.2.2.1 p hp).2 q]; simp
theorem zBt.hst {S : zS} {X : zX} (h : zBt S X) {p q : Nat} (hp : p < mN X) (hq : q ∈ S.K p) : q < mN X ∧ X 5 q = nI p ∧ mH X q = p ∧ ¬ X 5 q < 0 := by
  obtain ⟨h1, h2⟩ := (h.2.2.1 p hp).2 q |>.mp hq
  have hn := h.1.1.2
  have h3 : ¬ X 5 q < 0 := by rw [h2]; exact nI_pos (by omega)
  exact ⟨h1, h2, by unfold mH; rw [h2]; exact nI_clamp (by omega), h3⟩
theorem zBt.ko {S : zS} {X : zX} (h : zBt S X) : zKo S X := by
  intro p hp
  have hn := h.1.1.2
  refine ⟨?_, fun q hq => (h.hst hp hq).1⟩
  rw [zln (h.2.2.1 p hp).1 (f := fun q => decide (X 5 q = nI p)) (fun q => h.mem hp)]
  exact Nat.le_trans (zct_le _ _) hn
theorem zBt.kk {S : zS} {X : zX} (h : zBt S X) : zKk S X := by
  intro p hp q hq
  obtain ⟨h1, h2, h3, h4⟩ := h.hst hp hq
  have := h.2.1 q h1 h4
  rw [h3] at this
  exact mPl_lt h.1 h1 hp this
theorem zBt.km {S : zS} {X : zX} (h : zBt S X) : ∀ p, p < mN X → ¬ X 5 p < 0 → p ∈ S.K (mH X p) := by
  intro p hp hn
  obtain ⟨h1, h2, -⟩ := h.1.host hp hn
  exact ((h.2.2.1 _ h2).2 p).mpr ⟨hp, h1⟩
theorem nI_nm1 {n : Nat} (h : n < 60) : ¬ nI n = -1 := nI_nem1 (by omega)
theorem zBt.ln {S : zS} {X : zX} (h : zBt S X) {i : Nat} (hi : i < mN X) : (S.K i).length = mIn X (nI i) (-1) := by
  rw [zln (h.2.2.1 i hi).1 (f := fun q => decide (X 5 q = nI i)) (fun q => h.mem hi)]
  exact zct_cg _ (fun p _ => by simp [mIf])
theorem zBt.cn {S : zS} {X : zX} (h : zBt S X) {i : Nat} (hi : i < mN X) {k : Int32} (hk : ¬ k = -1) : (S.K i).countP (fun q => decide (X 2 q = k)) = mIn X (nI i) k := by
  rw [zcp (h.2.2.1 i hi).1 (f := fun q => decide (X 5 q = nI i)) (fun q => h.mem hi)]
  exact zct_cg _ (fun p _ => by simp [mIf, hk])
theorem zct_one {f g : Nat → Bool} {p : Nat} : ∀ n, (∀ q, q ≠ p → f q = g q) → f p = true → g p = false → p < n → zct f n = zct g n + 1 := by
  intro n
  induction n with
  | zero => intro _ _ _ h; omega
  | succ n ih =>
    intro h1 h2 h3 h4
    unfold zct
    by_cases e : n = p
    · subst e
      rw [h2, h3, zct_cg n (fun q hq => h1 q (by omega))]; simp
    · rw [ih h1 h2 h3 (by omega), h1 n e]
      omega
theorem zBt.ct {S : zS} {X : zX} (h : zBt S X) : zCt S X := by
  have hn := h.1.1.2
  refine ⟨fun i hi p hp => ?_, fun i hi => h.ln hi, fun p i hp hi h5 => ?_⟩
  · obtain ⟨e, h4⟩ := h.1.2.1 p hp
    exact h.cn hi (by rw [e]; exact nI_nm1 (by omega))
  · rw [h.ln hi]
    have eN : mN (m_moves (zu X 0 0 0) p (nI i)) = mN X := by unfold mN; rw [m_moves_row X p (nI i) (by decide) (by decide), zu_row_ne _ _ _ (by decide)]
    unfold mIn
    rw [eN]
    refine (zct_one (p := p) (mN X) (fun q hq => ?_) ?_ ?_ hp).symm
    · unfold mIf
      rw [m_moves_row X p (nI i) (by decide) (by decide), zu_n _ _ _ _ (fun z => hq z.2)]; simp
    · unfold mIf
      rw [m_moves_row X p (nI i) (by decide) (by decide), zu_s]; simp
    · unfold mIf
      rw [h5]
      have : ¬ (-1 : Int32) = nI i := fun z => nI_nm1 (by omega) z.symm
      simp [this]
