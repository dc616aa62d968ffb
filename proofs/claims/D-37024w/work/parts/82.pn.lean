/-! the log's replay -/
def zhX (X : zX) (p : Nat) : Int32 := if p < mN X ∧ ¬ X 5 p = -2 then X 5 p else -1
def zLg (t : Nat) (S : zS) (X : zX) : Prop := S.L.length ≤ t ∧ (∀ e ∈ S.L, e.2.1 < mN X ∧ ∀ h, e.2.2.1 = some h → h < mN X ∧ (e.2.2.2 = 0 → mK X h < mK X e.2.1)) ∧ (∀ i, i < mN X → (S.L.foldl (zrp i) (zf6 60, 0)).2 = X 6 i) ∧ ∀ i p, p < 60 → (S.L.foldl (zrp i) (zf6 60, 0)).1 p = zhX X p
theorem zLg.lo {t : Nat} {S : zS} {X : zX} (ht : t ≤ 99) (h : zLg t S X) : zLo S X := ⟨Nat.le_trans h.1 ht, fun e he => ⟨(h.2.1 e he).1, fun q hq => ((h.2.1 e he).2 q hq).1⟩⟩
theorem zrp_hs {X : zX} (i : Nat) : ∀ (L : List zL4) (s : (Nat → Int32) × Int32), (∀ e ∈ L, e.2.1 < mN X ∧ ∀ h, e.2.2.1 = some h → h < mN X ∧ (e.2.2.2 = 0 → mK X h < mK X e.2.1)) → zHs X s.1 → zHs X (L.foldl (zrp i) s).1 := by
  intro L
  induction L with
  | nil => intro s _ h; exact h
  | cons e L ih =>
    intro s h1 h2
    refine ih _ (fun x hx => h1 x (List.mem_cons_of_mem _ hx)) ?_
    unfold zrp
    by_cases c : e.2.2.2 = 0
    · rw [if_pos c]
      intro p hp
      show va_up s.1 e.2.1 (zro2 e.2.2.1) p = -1 ∨ ∃ h, va_up s.1 e.2.1 (zro2 e.2.2.1) p = nI h ∧ _
      by_cases z : p = e.2.1
      · subst z
        rw [va_up_self]
        cases ho : e.2.2.1 with
        | none => exact Or.inl rfl
        | some q =>
          obtain ⟨q1, q2⟩ := (h1 e List.mem_cons_self).2 q ho
          exact Or.inr ⟨q, rfl, q1, q2 c⟩
      · rw [va_up_ne _ _ z]; exact h2 p hp
    · rw [if_neg c]; exact h2
theorem zLg.hs {t : Nat} {S : zS} {X : zX} (hN : mN X ≤ 60) (h : zLg t S X) : ∀ i k, zHs X ((S.L.take k).foldl (zrp i) (zf6 60, 0)).1 := fun i k => zrp_hs i _ _ (fun e he => h.2.1 e (List.mem_of_mem_take he)) (fun p hp => Or.inl (by show zf6 60 p = -1; unfold zf6; rw [if_pos (by omega)]))
/-- the replay's head is the tree's -/
theorem zhf_hd {X : zX} (hI : MH X) {f : Nat → Int32} (hf : ∀ p, p < 60 → f p = zhX X p) : ∀ k p, p < mN X → zhf f k p = mHf X k p := by
  have hn := hI.1.2
  intro k
  induction k with
  | zero => intro p _; rfl
  | succ k ih =>
    intro p hp
    show (if f p = -1 then p else zhf f k (f p).toNatClampNeg) = (if X 5 p < 0 then p else mHf X k (mH X p))
    by_cases c : X 5 p < 0
    · have e : f p = -1 := by
        rw [hf p (by omega)]
        unfold zhX
        rcases hI.low hp c with e | e
        · rw [e]; split <;> rfl
        · rw [if_neg (fun z => z.2 e)]
      rw [if_pos c, if_pos e]
    · obtain ⟨e, h1, h2⟩ := hI.host hp c
      have hne : ¬ X 5 p = -2 := fun z => c (by rw [z]; decide)
      have e2 : f p = X 5 p := by
        rw [hf p (by omega)]
        unfold zhX
        exact if_pos ⟨hp, hne⟩
      rw [if_neg c, e2, if_neg (fun z => c (by rw [z]; decide))]
      exact ih _ h1
theorem zLg.cg {t : Nat} {S S' : zS} {X Y : zX} (h : zLg t S X) (h1 : mN Y = mN X) (h2 : Y 2 = X 2) (h5 : Y 5 = X 5) (h6 : Y 6 = X 6) (hL : S'.L = S.L) : zLg t S' Y := by
  have ek : ∀ p, mK Y p = mK X p := fun p => by unfold mK; rw [h2]
  have eh : ∀ p, zhX Y p = zhX X p := fun p => by unfold zhX; rw [h1, h5]
  unfold zLg
  simp only [hL, h1, ek, eh, h6]
  exact h
theorem zLg.up {t t' : Nat} {S : zS} {X : zX} (h : zLg t S X) (ht : t ≤ t') : zLg t' S X := ⟨Nat.le_trans h.1 ht, h.2⟩
/-- a move in the log -/
theorem zLg.mv {t : Nat} {S S' : zS} {X Y : zX} (h : zLg t S X) {q i : Nat} {o : Option Nat} (hi : i < mN X) (ho : ∀ a, o = some a → a < mN X ∧ mK X a < mK X i) (h1 : mN Y = mN X) (h2 : Y 2 = X 2) (h5 : ∀ p, Y 5 p = if p = i then zro2 o else X 5 p) (h6 : Y 6 = X 6) (hL : S'.L = S.L ++ [(q, i, o, 0)]) : zLg (t + 1) S' Y := by
  have ek : ∀ p, mK Y p = mK X p := fun p => by unfold mK; rw [h2]
  have hz : ∀ j, (S.L ++ [(q, i, o, 0)]).foldl (zrp j) (zf6 60, 0) = (va_up (S.L.foldl (zrp j) (zf6 60, 0)).1 i (zro2 o), (S.L.foldl (zrp j) (zf6 60, 0)).2) := fun j => by
    rw [List.foldl_append]; rfl
  unfold zLg
  rw [hL]
  refine ⟨by rw [List.length_append]; exact Nat.succ_le_succ h.1, fun e he => ?_, fun j hj => ?_, fun j p hp => ?_⟩
  · rw [h1]
    rcases List.mem_append.mp he with z | z
    · obtain ⟨g1, g2⟩ := h.2.1 e z
      exact ⟨g1, fun a ha => ⟨(g2 a ha).1, fun c => by rw [ek, ek]; exact (g2 a ha).2 c⟩⟩
    · rw [List.mem_singleton.mp z]
      exact ⟨hi, fun a ha => ⟨(ho a ha).1, fun _ => by rw [ek, ek]; exact (ho a ha).2⟩⟩
  · rw [h1] at hj
    rw [hz, h6]; exact h.2.2.1 j hj
  · rw [hz]
    show va_up (S.L.foldl (zrp j) (zf6 60, 0)).1 i (zro2 o) p = zhX Y p
    unfold zhX
    rw [h1, h5]
    by_cases c : p = i
    · subst c
      have hn2 : ¬ zro2 o = -2 := by
        cases o with
        | none => decide
        | some a =>
          intro z
          have := congrArg Int32.toInt z
          have hz2 : (nI a).toInt = -2 := this.trans (by decide)
          have := (ho a rfl).1
          by_cases hb : a < 2 ^ 31
          · rw [nI_toInt hb] at hz2; omega
          · have hmn : mN X < 2 ^ 31 := zcl _
            omega
      rw [va_up_self, if_pos rfl, if_pos ⟨hi, hn2⟩]
    · rw [va_up_ne _ _ c, if_neg c, h.2.2.2 j p hp]
      unfold zhX
      rfl
/-- scrapped: the replay stays -/
theorem zLg.sc {t : Nat} {S S' : zS} {X Y : zX} (h : zLg t S X) {i : Nat} (hx : X 5 i = -1) (h1 : mN Y = mN X) (h2 : Y 2 = X 2) (h5 : ∀ p, Y 5 p = if p = i then -2 else X 5 p) (h6 : Y 6 = X 6) (hL : S'.L = S.L) : zLg t S' Y := by
  have ek : ∀ p, mK Y p = mK X p := fun p => by unfold mK; rw [h2]
  have eh : ∀ p, zhX Y p = zhX X p := fun p => by
    unfold zhX
    rw [h1, h5]
    by_cases c : p = i
    · subst c
      rw [if_pos rfl, if_neg (fun z => z.2 rfl), hx]
      split <;> rfl
    · rw [if_neg c]
  unfold zLg
  simp only [hL, h1, ek, eh, h6]
  exact h
/-- a run in the log -/
theorem zLg.run {t : Nat} {S S' : zS} {X Y : zX} (hI : MH X) (h : zLg t S X) {q n : Nat} {km : Int32} (hn : n < mN X) (hkm : ¬ km = 0) (h1 : mN Y = mN X) (h2 : Y 2 = X 2) (h5 : Y 5 = X 5) (h6 : ∀ p, p < mN X → Y 6 p = if mHd X p = n then X 6 p + km else X 6 p) (hL : S'.L = S.L ++ [(q, n, none, km)]) : zLg (t + 1) S' Y := by
  have ek : ∀ p, mK Y p = mK X p := fun p => by unfold mK; rw [h2]
  have eh : ∀ p, zhX Y p = zhX X p := fun p => by unfold zhX; rw [h1, h5]
  have hz : ∀ j, (S.L ++ [(q, n, none, km)]).foldl (zrp j) (zf6 60, 0) = ((S.L.foldl (zrp j) (zf6 60, 0)).1, (S.L.foldl (zrp j) (zf6 60, 0)).2 + (if zhf (S.L.foldl (zrp j) (zf6 60, 0)).1 5 j = n then km else 0)) := fun j => by
    rw [List.foldl_append]
    show zrp j _ (q, n, none, km) = _
    unfold zrp
    exact if_neg hkm
  unfold zLg
  rw [hL]
  refine ⟨by rw [List.length_append]; exact Nat.succ_le_succ h.1, fun e he => ?_, fun j hj => ?_, fun j p hp => ?_⟩
  · rw [h1]
    rcases List.mem_append.mp he with z | z
    · obtain ⟨g1, g2⟩ := h.2.1 e z
      exact ⟨g1, fun a ha => ⟨(g2 a ha).1, fun c => by rw [ek, ek]; exact (g2 a ha).2 c⟩⟩
    · rw [List.mem_singleton.mp z]
      exact ⟨hn, fun a ha => by cases ha⟩
  · rw [h1] at hj
    rw [hz, h6 j hj, h.2.2.1 j hj, zhf_hd hI (h.2.2.2 j) 5 j hj]
    show X 6 j + (if mHd X j = n then km else 0) = _
    split
    · rfl
    · exact Int32.add_zero _
  · rw [hz, eh]; exact h.2.2.2 j p hp
/-- a new part -/
theorem zLg.new {t : Nat} {S S' : zS} {X Y : zX} (h : zLg t S X) (h1 : mN Y = mN X + 1) (h2 : ∀ p, p < mN X → Y 2 p = X 2 p) (h5 : ∀ p, p < mN X → Y 5 p = X 5 p) (h5n : Y 5 (mN X) = -1) (h6 : ∀ p, p < mN X → Y 6 p = X 6 p) (h6n : Y 6 (mN X) = 0) (hL : S'.L = S.L) (h60 : mN X < 60) : zLg t S' Y := by
  have ek : ∀ p, p < mN X → mK Y p = mK X p := fun p hp => by unfold mK; rw [h2 p hp]
  unfold zLg
  rw [hL]
  refine ⟨h.1, fun e he => ?_, fun j hj => ?_, fun j p hp => ?_⟩
  · obtain ⟨g1, g2⟩ := h.2.1 e he
    refine ⟨by omega, fun a ha => ?_⟩
    obtain ⟨k1, k2⟩ := g2 a ha
    exact ⟨by omega, fun c => by rw [ek a k1, ek _ g1]; exact k2 c⟩
  · by_cases c : j = mN X
    · subst c
      rw [h6n]
      have : ∀ (L : List zL4) (s : (Nat → Int32) × Int32), (∀ e ∈ L, e.2.1 < mN X) → (s.1 (mN X) = -1) → s.2 = 0 → (L.foldl (zrp (mN X)) s).2 = 0 := by
        intro L
        induction L with
        | nil => intro s _ _ h; exact h
        | cons e L ih =>
          intro s g1 g2 g3
          refine ih _ (fun x hx => g1 x (List.mem_cons_of_mem _ hx)) ?_ ?_
          · unfold zrp
            split
            · show va_up s.1 e.2.1 _ (mN X) = -1
              rw [va_up_ne _ _ (by have := g1 e List.mem_cons_self; omega)]; exact g2
            · exact g2
          · unfold zrp
            split
            · exact g3
            · show s.2 + (if (if s.1 (mN X) = -1 then mN X else zhf s.1 4 (s.1 (mN X)).toNatClampNeg) = e.2.1 then e.2.2.2 else 0) = 0
              rw [if_pos g2, if_neg (by have := g1 e List.mem_cons_self; omega), g3]; rfl
      exact this S.L _ (fun e he => (h.2.1 e he).1) (by show zf6 60 (mN X) = -1; unfold zf6; rw [if_pos h60]) rfl
    · rw [h6 j (by omega)]; exact h.2.2.1 j (by omega)
  · rw [h.2.2.2 j p hp]
    unfold zhX
    rw [h1]
    by_cases c : p < mN X
    · rw [h5 p c]
      by_cases d : X 5 p = -2
      · rw [if_neg (fun z => z.2 d), if_neg (fun z => z.2 d)]
      · rw [if_pos ⟨c, d⟩, if_pos ⟨by omega, d⟩]
    · rw [if_neg (fun z => c z.1)]
      by_cases d : p = mN X
      · rw [d, h5n, if_pos ⟨by omega, by decide⟩]
      · rw [if_neg (fun z => by omega)]
