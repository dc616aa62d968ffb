/-! run: the system's round is the model's -/
theorem m_goes_col0 {X Y : zX} {p : Nat} (km se : Int32) (h : ∀ r, r ≠ 0 → Y r p = X r p) {r : Nat} (hr : r ≠ 0) : m_goes Y p km se r p = m_goes X p km se r p := by
  have hs : mSt Y p km = mSt X p km := by unfold mSt; rw [h 18 (by decide), h 6 (by decide), h 19 (by decide)]
  have hz : ∀ (A B : zX) (k : Nat) (v : Int32), (∀ r, r ≠ 0 → A r p = B r p) → ∀ r, r ≠ 0 → zu A k p v r p = zu B k p v r p := fun A B k v hab r hr => by
    by_cases e : r = k
    · subst e; rw [zu_s, zu_s]
    · rw [zu_n _ _ _ _ (fun z => e z.1), zu_n _ _ _ _ (fun z => e z.1), hab r hr]
  have hg : ∀ r, r ≠ 0 → mGo1 Y p km r p = mGo1 X p km r p := fun r hr => by
    unfold mGo1
    rw [h 6 (by decide), h 7 (by decide)]
    exact hz _ _ _ _ (hz _ _ _ _ h) r hr
  have h2 : ∀ r, r ≠ 0 → mGo2 Y p km se r p = mGo2 X p km se r p := fun r hr => by
    unfold mGo2
    rw [h 2 (by decide), h 15 (by decide), h 13 (by decide), h 14 (by decide), h 6 (by decide)]
    split
    · exact hz _ _ _ _ (hz _ _ _ _ (hz _ _ _ _ hg)) r hr
    · exact hg r hr
  unfold m_goes
  rw [hs, h 18 (by decide)]
  exact hz _ _ _ _ h2 r hr
theorem zgo_in {S : zS} {X : zX} {km se : Int32} {t p : Nat} (hnd : (zDn S 5 t).Nodup) (hp : p ∈ zDn S 5 t) (r : Nat) : zgo S km se 5 t X r p = m_goes X p km se r p := by
  rw [zgo_eq]; exact zfg_in km se r _ _ hnd hp
theorem zgo_out {S : zS} {X : zX} {km se : Int32} {t p : Nat} (hp : p ∉ zDn S 5 t) (r : Nat) : zgo S km se 5 t X r p = X r p := by
  rw [zgo_eq]; exact zfg_out km se r _ _ hp
/-- holding a list of parts of one train -/
theorem zqh {t : Nat} : ∀ (L : List Nat) (X : zX), (∀ p ∈ L, mHd X p = t) → X 11 t = 0 → (∀ k, k ≠ 9 → L.foldl m_holds X k = X k) ∧ ∀ q, L.foldl m_holds X 9 q = if q ∈ L then 1 else X 9 q := by
  intro L
  induction L with
  | nil => intro X _ _; exact ⟨fun _ _ => rfl, fun q => by simp⟩
  | cons p L ih =>
    intro X h1 h2
    have hp : mHd (zu X 9 p 1) p = t := by rw [mHd_w _ _ _ _ (by decide)]; exact h1 p List.mem_cons_self
    have e : m_holds X p = zu X 9 p 1 := by
      unfold m_holds m_ends
      rw [hp]
      exact zu_r _ _ _ _ (by rw [zu_n _ _ _ _ (fun z => absurd z.1 (by decide))]; exact h2)
    obtain ⟨k1, k2⟩ := ih (zu X 9 p 1) (fun q hq => by rw [mHd_w _ _ _ _ (by decide)]; exact h1 q (List.mem_cons_of_mem _ hq)) (by rw [zu_n _ _ _ _ (fun z => absurd z.1 (by decide))]; exact h2)
    refine ⟨fun k hk => ?_, fun q => ?_⟩
    · show L.foldl m_holds (m_holds X p) k = _
      rw [e, k1 k hk, zu_row_ne _ _ _ hk]
    · show L.foldl m_holds (m_holds X p) 9 q = _
      rw [e, k2 q]
      by_cases hq : q ∈ L
      · rw [if_pos hq, if_pos (List.mem_cons_of_mem _ hq)]
      · rw [if_neg hq]
        by_cases hqp : q = p
        · subst hqp; rw [zu_s, if_pos List.mem_cons_self]
        · rw [zu_n _ _ _ _ (fun z => hqp z.2), if_neg (fun z => (List.mem_cons.mp z).elim hqp hq)]
theorem mHl_col (X : zX) (t : Nat) : ∀ n q, q < n → mHl X t n 9 q = if ¬ X 9 q = 0 ∨ mIi X q t = true then 1 else 0 := by
  intro n
  induction n with
  | zero => intro q h; omega
  | succ n ih =>
    intro q h
    show (if ¬ X 9 n = 0 ∨ mIi X n t = true then zu (mHl X t n) 9 n 1 else zu (mHl X t n) 9 n 0) 9 q = _
    by_cases e : q = n
    · subst e
      split
      · rw [zu_s]
      · rw [zu_s]
    · have hq := ih q (by omega)
      split
      · rw [zu_n _ _ _ _ (fun z => e z.2), hq]
      · rw [zu_n _ _ _ _ (fun z => e z.2), hq]
theorem zfi_cg : ∀ (f g : Nat → Bool) n j, (∀ p, j ≤ p → p < j + n → f p = g p) → zfi f n j = zfi g n j := by
  intro f g n
  induction n with
  | zero => intro j _; rfl
  | succ n ih =>
    intro j h
    show (if f j = true then some j else zfi f n (j + 1)) = (if g j = true then some j else zfi g n (j + 1))
    rw [h j (Nat.le_refl _) (by omega), ih (j + 1) (fun p h1 h2 => h p (by omega) (by omega))]
theorem zrun {S : zS} {X : zX} (h : zBt S X) (hz9 : ∀ p, X 9 p = 0 ∨ X 9 p = 1) {t : Nat} (ht : t < mN X) (h2 : X 2 t = 0) (km se : Int32) :
    (mRn t km se (mN X) (zu (zu X 0 0 0) 11 t 0, -1)).1 0 0 = 0 ∧
    (zfi (zF7 (zgo S km se 5 t (zu X 11 t 0)) t) (mN X) 0 = none → (mRn t km se (mN X) (zu (zu X 0 0 0) 11 t 0, -1)).2 = -1 ∧ ∀ k, k ≠ 0 → k < 23 → (mRn t km se (mN X) (zu (zu X 0 0 0) 11 t 0, -1)).1 k = zgo S km se 5 t (zu X 11 t 0) k) ∧
    ∀ b, zfi (zF7 (zgo S km se 5 t (zu X 11 t 0)) t) (mN X) 0 = some b → (mRn t km se (mN X) (zu (zu X 0 0 0) 11 t 0, -1)).2 = nI b ∧ ∀ k, k ≠ 0 → k < 23 → mHl (mRn t km se (mN X) (zu (zu X 0 0 0) 11 t 0, -1)).1 t (mN X) k = zqa S 5 t (zgo S km se 5 t (zu X 11 t 0)) k := by
  have h5 := h.tr ht h2
  have hnd := zDn_nd h 5 t ht
  have hmem : ∀ p, p ∈ zDn S 5 t ↔ (p < mN X ∧ mHd X p = t) := fun p => zDn_hd h ht h5
  obtain ⟨X1, e1⟩ : ∃ X1, X1 = zu X 11 t 0 := ⟨_, rfl⟩
  obtain ⟨X0, e0⟩ : ∃ X0, X0 = zu (zu X 0 0 0) 11 t 0 := ⟨_, rfl⟩
  rw [← e1, ← e0]
  have h01 : ∀ r, r ≠ 0 → X0 r = X1 r := fun r hr => by
    rw [e0, e1]
    by_cases z : r = 11
    · subst z; rw [zu_row, zu_row, zu_row_ne _ _ _ (by decide)]
    · rw [zu_row_ne _ _ _ z, zu_row_ne _ _ _ z, zu_row_ne _ _ _ hr]
  have h05 : X0 5 = X 5 := by rw [h01 5 (by decide), e1]; exact zu_row_ne _ _ _ (by decide)
  have h15 : X1 5 = X 5 := by rw [e1]; exact zu_row_ne _ _ _ (by decide)
  have hi : ∀ p, mIi X0 p t = true ↔ mHd X p = t := fun p => by rw [mIi_cg h05]; exact mIi_hd h5
  have hcol : ∀ p r, r ≠ 0 → m_goes X0 p km se r p = m_goes X1 p km se r p := fun p r hr => m_goes_col0 km se (fun r hr => congrFun (h01 r hr) p) hr
  -- the rows
  have hrow : ∀ k, k ≠ 0 → k < 23 → (mRn t km se (mN X) (X0, -1)).1 k = zgo S km se 5 t X1 k := fun k hk _ => by
    funext q
    by_cases hq : q < mN X
    · rw [mRn_col t km se k _ _ hq]
      show (if mIi X0 q t = true then m_goes X0 q km se k q else X0 k q) = _
      by_cases c : mHd X q = t
      · rw [if_pos ((hi q).mpr c), zgo_in hnd ((hmem q).mpr ⟨hq, c⟩), hcol q k hk]
      · rw [if_neg (fun z => c ((hi q).mp z)), zgo_out (fun z => c ((hmem q).mp z).2), h01 k hk]
    · rw [mRn_hi t km se k _ _ (by omega), zgo_out (fun z => hq ((hmem q).mp z).1)]
      show X0 k q = _
      rw [h01 k hk]
  have hZ5 : zgo S km se 5 t X1 5 = X 5 := (zgo_keep S km se (by decide) 5 t X1).trans h15
  have hf : zfi (zF7 (zgo S km se 5 t X1) t) (mN X) 0 = zfi (fun p => mIi X0 p t && decide (¬ m_goes X0 p km se 18 p < 100)) (mN X) 0 := zfi_cg _ _ _ _ (fun p _ hp => by
    unfold zF7
    rw [mHd_cg hZ5]
    by_cases c : mHd X p = t
    · rw [zgo_in hnd ((hmem p).mpr ⟨by omega, c⟩), hcol p 18 (by decide), (hi p).mpr c]; simp [c]
    · have : mIi X0 p t = false := Bool.eq_false_iff.mpr (fun z => c ((hi p).mp z))
      simp [c, this])
  have hbr := mRn_br t km se (mN X) (X0, -1)
  dsimp only at hbr
  refine ⟨?_, fun hn => ?_, fun b hb => ?_⟩
  · rw [mRn_col t km se 0 _ _ (by omega)]
    show (if mIi X0 0 t = true then m_goes X0 0 km se 0 0 else X0 0 0) = 0
    have e00 : X0 0 0 = 0 := by rw [e0, zu_row_ne _ _ _ (by decide)]; exact zu_s X 0 0 0
    rw [m_goes_keep X0 0 km se (by decide)]
    split <;> exact e00
  · rw [hf] at hn
    rw [hn] at hbr
    exact ⟨hbr, hrow⟩
  · rw [hf] at hb
    rw [hb] at hbr
    refine ⟨hbr, fun k hk hk2 => ?_⟩
    have hZ11 : zgo S km se 5 t X1 11 t = 0 := by
      rw [congrFun (zgo_keep S km se (by decide) 5 t X1) t, e1]; exact zu_s X 11 t 0
    obtain ⟨q1, q2⟩ := zqh (t := t) (zDn S 5 t) (zgo S km se 5 t X1) (fun p hp => by rw [mHd_cg hZ5]; exact ((hmem p).mp hp).2) hZ11
    rw [zqa_eq]
    by_cases z : k = 9
    · subst z
      funext q
      rw [q2 q]
      have h9 : zgo S km se 5 t X1 9 q = X 9 q := by rw [congrFun (zgo_keep S km se (by decide) 5 t X1) q, e1, zu_row_ne _ _ _ (by decide)]
      have hM5 : (mRn t km se (mN X) (X0, -1)).1 5 = X 5 := (mRn_5 t km se _ _).trans h05
      by_cases hq : q < mN X
      · rw [mHl_col _ _ _ _ hq, mIi_cg hM5, congrFun (hrow 9 (by decide) (by decide)) q, h9]
        by_cases c : mHd X q = t
        · rw [if_pos (Or.inr ((mIi_hd h5).mpr c)), if_pos ((hmem q).mpr ⟨hq, c⟩)]
        · rw [if_neg (show ¬ q ∈ zDn S 5 t from fun z => c ((hmem q).mp z).2)]
          rcases hz9 q with e | e
          · rw [e, if_neg (fun z => z.elim (fun z => z rfl) (fun z => c ((mIi_hd h5).mp z)))]
          · rw [e, if_pos (Or.inl (by decide))]
      · rw [mHl_9 _ _ _ _ (by omega), congrFun (hrow 9 (by decide) (by decide)) q, if_neg (fun z => hq ((hmem q).mp z).1)]
    · rw [mHl_cg _ _ z, q1 k z, hrow k hk hk2]
