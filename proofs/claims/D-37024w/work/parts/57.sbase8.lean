/-! for the public writers -/
theorem mHf_st {X : zX} (hI : MH X) : ∀ k p, p < mN X → mK X p ≤ k → mHf X (k + 1) p = mHf X k p := by
  intro k
  induction k with
  | zero =>
    intro p hp hk
    show (if X 5 p < 0 then p else mHf X 0 (mH X p)) = p
    by_cases c : X 5 p < 0
    · rw [if_pos c]
    · have := (hI.host hp c).2.2; omega
  | succ k ih =>
    intro p hp hk
    show (if X 5 p < 0 then p else mHf X (k + 1) (mH X p)) = (if X 5 p < 0 then p else mHf X k (mH X p))
    by_cases c : X 5 p < 0
    · rw [if_pos c, if_pos c]
    · rw [if_neg c, if_neg c]
      obtain ⟨-, h1, h2⟩ := hI.host hp c
      exact ih _ h1 (by omega)
theorem mHd_host {X : zX} (hI : MH X) {p : Nat} (hp : p < mN X) (c : ¬ X 5 p < 0) : mHd X p = mHd X (mH X p) := by
  obtain ⟨-, h1, h2⟩ := hI.host hp c
  have h4 := (hI.2.1 p hp).2
  show (if X 5 p < 0 then p else mHf X 4 (mH X p)) = mHf X 5 (mH X p)
  rw [if_neg c]
  exact (mHf_st hI 4 _ h1 (by omega)).symm
theorem MH.five {X : zX} (hI : MH X) {q : Nat} {to : Int32} (ht : to = -1 ∨ to = -2 ∨ ∃ h, to = nI h ∧ h < mN X ∧ mK X h < mK X q) : MH (zu X 5 q to) := by
  have h := MH.moves hI ht
  have e5 : zu X 5 q to 5 = m_moves X q to 5 := ((zu_row_ne _ _ _ (by decide)).trans ((zu_row_ne _ _ _ (by decide)).trans (zu_row_ne _ _ _ (by decide)))).symm
  have e2 : zu X 5 q to 2 = m_moves X q to 2 := ((zu_row_ne _ _ _ (by decide)).trans ((zu_row_ne _ _ _ (by decide)).trans (zu_row_ne _ _ _ (by decide)))).symm
  have e1 : zu X 5 q to 1 = m_moves X q to 1 := ((zu_row_ne _ _ _ (by decide)).trans ((zu_row_ne _ _ _ (by decide)).trans (zu_row_ne _ _ _ (by decide)))).symm
  exact h.cg (by rw [e1]) e2 e5
theorem m_moves_row (X : zX) (p : Nat) (to : Int32) {k : Nat} (h0 : k ≠ 0) (h : k < 23) : m_moves (zu X 0 0 0) p to k = zu X 5 p to k := by
  unfold m_moves
  rw [zu_row_ne _ _ _ (by omega), zu_row_ne _ _ _ (by omega), zu_row_ne _ _ _ (by omega)]
  funext j
  simp only [zu]
  rw [if_neg (show ¬ (k = 0 ∧ j = 0) from fun z => h0 z.1)]
theorem zfirst {L : List Nat} {p : Nat} (h : p ∈ L) : ∃ i0, L[i0]? = some p ∧ (∀ j, j < i0 → L[j]? ≠ some p) ∧ L.eraseIdx i0 = L.erase p := by
  induction L with
  | nil => cases h
  | cons q L ih =>
    by_cases e : q = p
    · subst e
      exact ⟨0, rfl, fun j hj => absurd hj (Nat.not_lt_zero _), by simp⟩
    · have h2 : p ∈ L := by
        rcases List.mem_cons.mp h with z | z
        · exact absurd z.symm e
        · exact z
      obtain ⟨i0, h1, h3, h4⟩ := ih h2
      refine ⟨i0 + 1, by simpa using h1, fun j hj => ?_, ?_⟩
      · cases j with
        | zero => intro z; exact e (by simpa using z)
        | succ j => intro z; exact h3 j (by omega) (by simpa using z)
      · rw [List.eraseIdx_cons_succ, h4, List.erase_cons_tail (by simpa using e)]
theorem map_eraseIdx {α β : Type} (f : α → β) : ∀ (L : List α) (i : Nat), (L.map f).eraseIdx i = (L.eraseIdx i).map f := by
  intro L
  induction L with
  | nil => intro i; rfl
  | cons a L ih =>
    intro i
    cases i with
    | zero => rfl
    | succ i => simp only [List.map_cons, List.eraseIdx_cons_succ, ih]
theorem zabs4 : ∀ a, a < 4 → ∀ b, b < 4 → ((1 < (if 0 ≤ nI a - nI b then nI a - nI b else 0 - (nI a - nI b))) ↔ (1 < nI a - nI b ∨ nI a - nI b < -1)) := by decide
/-- the parts' mods -/
def zMd (X : zX) : Prop := ∀ p, p < mN X → ∃ k, k < 4 ∧ X 4 p = nI k
theorem zabs {X : zX} (h : zMd X) {p q : Nat} (hp : p < mN X) (hq : q < mN X) : (1 < (if 0 ≤ X 4 p - X 4 q then X 4 p - X 4 q else 0 - (X 4 p - X 4 q))) ↔ (1 < X 4 p - X 4 q ∨ X 4 p - X 4 q < -1) := by
  obtain ⟨a, ha, e1⟩ := h p hp
  obtain ⟨b, hb, e2⟩ := h q hq
  rw [e1, e2]
  exact zabs4 a ha b hb
theorem mPl_nn (a b : Int32) : ¬ mPl a b < 0 := by
  unfold mPl
  repeat' split
  all_goals decide
theorem mPl_3' (a b : Int32) : mPl a b = 0 ∨ mPl a b = 1 ∨ mPl a b = 2 := by
  unfold mPl
  repeat' split
  all_goals decide
/-- the log's works are of parts -/
def zLo (S : zS) (X : zX) : Prop := S.L.length ≤ 99 ∧ ∀ e ∈ S.L, e.2.1 < mN X ∧ ∀ h, e.2.2.1 = some h → h < mN X
/-- one part more -/
def zS.pA (S : zS) (n q b1 b2 b3 : Nat) : zS := zS.of (va_up (va_up (va_up (va_up S.A (20 + 4 * n) q) (21 + 4 * n) b1) (22 + 4 * n) b2) (23 + 4 * n) b3) (va_up S.K n []) (va_up S.TL n []) S.L S.Wt S.Rd S.few S.tf S.bf (va_up (va_up (va_up S.mu 2 (S.mu 2 + 1)) (22 + 4 * n) 0) (23 + 4 * n) 0)
theorem zSy.part {S : zS} {g : zG} {X Y : zX} {T T1 : zT} (h : zSy S g X T) (hC : zKo S X) (hO : zTo S X) (hL : zLo S X) (hW : zWo S X) (hn : mN Y = mN X + 1) {q b1 b2 b3 : Nat}
    (hq : T q = none) (h1 : T b1 = none) (h2 : T b2 = none) (h3 : T b3 = none) (hne : q ≠ b1 ∧ q ≠ b2 ∧ q ≠ b3 ∧ b1 ≠ b2 ∧ b1 ≠ b3 ∧ b2 ≠ b3)
    (eq_ : T1 q = some (.inl (zo 3 (zpF (S.pA (mN X) q b1 b2 b3) Y (mN X))))) (e1 : T1 b1 = some (.inl (zo 4 [.ref b2, .null]))) (e2 : T1 b2 = some (.inr (0, []))) (e3 : T1 b3 = some (.inr (0, [])))
    (eo : ∀ a, a ≠ q → a ≠ b1 → a ≠ b2 → a ≠ b3 → T1 a = T a) (hr : ∀ k, k ≠ 0 → k ≠ 1 → k < 20 → ∀ p, p < mN X → Y k p = X k p) (h20 : Y 20 = X 20) (h21 : Y 21 = X 21) (h22 : Y 22 = X 22) (h5 : Y 5 (mN X) < 0) (hH : ∀ p, p < mN X → ¬ X 5 p < 0 → mH X p < mN X) :
    zSy (S.pA (mN X) q b1 b2 b3) g Y (va_up T1 (S.A 2) (some (.inr (S.mu 2 + 1, (List.range (mN X)).map (fun q => some (S.pa q)) ++ [some q])))) := by
  obtain ⟨S2, eS2⟩ : ∃ S2, S2 = S.pA (mN X) q b1 b2 b3 := ⟨_, rfl⟩
  rw [← eS2] at eq_ ⊢
  have aq : S2.A (20 + 4 * mN X) = q := by rw [eS2]; show va_up (va_up (va_up (va_up _ _ _) _ _) _ _) _ _ _ = _; rw [va_up_ne _ _ (by omega), va_up_ne _ _ (by omega), va_up_ne _ _ (by omega), va_up_self]
  have a1 : S2.A (21 + 4 * mN X) = b1 := by rw [eS2]; show va_up (va_up (va_up (va_up _ _ _) _ _) _ _) _ _ _ = _; rw [va_up_ne _ _ (by omega), va_up_ne _ _ (by omega), va_up_self]
  have a2 : S2.A (22 + 4 * mN X) = b2 := by rw [eS2]; show va_up (va_up (va_up (va_up _ _ _) _ _) _ _) _ _ _ = _; rw [va_up_ne _ _ (by omega), va_up_self]
  have a3 : S2.A (23 + 4 * mN X) = b3 := by rw [eS2]; show va_up (va_up (va_up (va_up _ _ _) _ _) _ _) _ _ _ = _; rw [va_up_self]
  have ao : ∀ c, zuse X c → S2.A c = S.A c := fun c hc => by
    rw [eS2]; show va_up (va_up (va_up (va_up _ _ _) _ _) _ _) _ _ _ = _
    unfold zuse at hc
    have := hC
    rw [va_up_ne _ _ (by omega), va_up_ne _ _ (by omega), va_up_ne _ _ (by omega), va_up_ne _ _ (by omega)]
  have au : ∀ c, zuse Y c → zuse X c ∨ c = 20 + 4 * mN X ∨ c = 21 + 4 * mN X ∨ c = 22 + 4 * mN X ∨ c = 23 + 4 * mN X := fun c hc => by unfold zuse at hc ⊢; rw [hn] at hc; omega
  have ne1 : ∀ a x, T a = some x → a ≠ q ∧ a ≠ b1 ∧ a ≠ b2 ∧ a ≠ b3 := fun a x hx => ⟨fun z => (by rw [z, hq] at hx; cases hx), fun z => (by rw [z, h1] at hx; cases hx), fun z => (by rw [z, h2] at hx; cases hx), fun z => (by rw [z, h3] at hx; cases hx)⟩
  have to1 : ∀ a x, T a = some x → T1 a = some x := fun a x hx => by obtain ⟨z1, z2, z3, z4⟩ := ne1 a x hx; rw [eo a z1 z2 z3 z4]; exact hx
  have th := h.th
  have n2 := ne1 _ _ th
  have pa : ∀ p, p < mN X → S2.pa p = S.pa p := fun p hp => ao _ (Or.inr (by omega))
  have pn : S2.pa (mN X) = q := aq
  have mo : ∀ c, c ≠ 2 → c ≠ 22 + 4 * mN X → c ≠ 23 + 4 * mN X → S2.mu c = S.mu c := fun c z1 z2 z3 => by
    rw [eS2]; show va_up (va_up (va_up _ _ _) _ _) _ _ _ = _; rw [va_up_ne _ _ z3, va_up_ne _ _ z2, va_up_ne _ _ z1]
  have pw : ∀ p, p < mN X → zpF S2 Y p = zpF S X p := fun p hp => by
    have e : ∀ k, k ≠ 0 → k ≠ 1 → k < 20 → Y k p = X k p := fun k z0 z1 z2 => hr k z0 z1 z2 p hp
    unfold zpF
    rw [ao (21 + 4 * p) (Or.inr (by omega)), ao (23 + 4 * p) (Or.inr (by omega)), e 2 (by decide) (by decide) (by decide), e 3 (by decide) (by decide) (by decide), e 4 (by decide) (by decide) (by decide), e 5 (by decide) (by decide) (by decide), e 6 (by decide) (by decide) (by decide), e 7 (by decide) (by decide) (by decide), e 8 (by decide) (by decide) (by decide), e 9 (by decide) (by decide) (by decide), e 10 (by decide) (by decide) (by decide), e 18 (by decide) (by decide) (by decide), e 19 (by decide) (by decide) (by decide), e 13 (by decide) (by decide) (by decide), e 14 (by decide) (by decide) (by decide), e 15 (by decide) (by decide) (by decide), e 17 (by decide) (by decide) (by decide), e 16 (by decide) (by decide) (by decide), e 11 (by decide) (by decide) (by decide), e 12 (by decide) (by decide) (by decide)]
  have cg : ∀ e : zC3, e.2.1 < mN X → zCg S T e → zCg S2 (va_up T1 (S.A 2) (some (.inr (S.mu 2 + 1, (List.range (mN X)).map (fun q => some (S.pa q)) ++ [some q])))) e := fun e he hz => by
    unfold zCg at hz ⊢
    rw [va_up_ne _ _ (h.ne (c := 2) (Or.inl (by omega)) hz (by omega)), to1 _ _ hz, pa _ he]
  have m2 : S2.mu 2 = S.mu 2 + 1 := by rw [eS2]; show va_up (va_up (va_up _ _ _) _ _) _ _ _ = _; rw [va_up_ne _ _ (by omega), va_up_ne _ _ (by omega), va_up_self]
  have mq2 : S2.mu (22 + 4 * mN X) = 0 := by rw [eS2]; show va_up (va_up (va_up _ _ _) _ _) _ _ _ = _; rw [va_up_ne _ _ (by omega), va_up_self]
  have mq3 : S2.mu (23 + 4 * mN X) = 0 := by rw [eS2]; show va_up (va_up (va_up _ _ _) _ _) _ _ _ = _; rw [va_up_self]
  have kA : S2.K = va_up S.K (mN X) [] := by rw [eS2]; rfl
  have tA : S2.TL = va_up S.TL (mN X) [] := by rw [eS2]; rfl
  have lL : S2.L = S.L := by rw [eS2]; rfl
  have lW : S2.Wt = S.Wt := by rw [eS2]; rfl
  have lR : S2.Rd = S.Rd := by rw [eS2]; rfl
  have lf : S2.few = S.few := by rw [eS2]; rfl
  have lt : S2.tf = S.tf := by rw [eS2]; rfl
  have lb : S2.bf = S.bf := by rw [eS2]; rfl
  clear eS2
  have mo2 : S2.mu 2 = S.mu 2 + 1 := m2
  have kc : ∀ p, p < mN X → S2.K p = S.K p := fun p hp => by rw [kA]; exact va_up_ne _ _ (by omega)
  have tc : ∀ p, p < mN X → S2.TL p = S.TL p := fun p hp => by rw [tA]; exact va_up_ne _ _ (by omega)
  have nT : ∀ c x, zuse X c → c ≠ 2 → T (S.A c) = some x → va_up T1 (S.A 2) (some (.inr (S.mu 2 + 1, (List.range (mN X)).map (fun q => some (S.pa q)) ++ [some q]))) (S.A c) = some x := fun c x hc z hx => by
    rw [va_up_ne _ _ (fun w => z (h.inj c 2 hc (Or.inl (by omega)) w))]; exact to1 _ _ hx
  have cin : ∀ c, zuse X c → c ≠ 2 → zSc S2 g Y c = zSc S g X c := fun c hx z => by
    rcases hx.cs with hz | ⟨p, hp, hz | hz | hz | hz⟩
    · rcases (show c = 0 ∨ c = 1 ∨ c = 3 ∨ c = 4 ∨ c = 5 ∨ c = 6 ∨ c = 7 ∨ c = 8 ∨ c = 9 ∨ c = 10 ∨ c = 11 ∨ c = 12 ∨ c = 13 by omega) with rfl | rfl | rfl | rfl | rfl | rfl | rfl | rfl | rfl | rfl | rfl | rfl | rfl
      · rw [zSc_0, zSc_0, lf, ao 1 (Or.inl (by omega)), ao 3 (Or.inl (by omega)), ao 4 (Or.inl (by omega)), ao 5 (Or.inl (by omega)), ao 6 (Or.inl (by omega)), ao 7 (Or.inl (by omega)), ao 8 (Or.inl (by omega)), ao 9 (Or.inl (by omega)), ao 10 (Or.inl (by omega))]
      · rw [zSc_1, zSc_1, ao 2 (Or.inl (by omega))]
      · rw [zSc_3, zSc_3, h20]
      · rw [zSc_4, zSc_4, h21]
      · rw [zSc_5, zSc_5, h22]
      · rw [zSc_6, zSc_6, lL, mo 6 (by omega) (by omega) (by omega)]
      · rw [zSc_7, zSc_7, lW, mo 7 (by omega) (by omega) (by omega)]
      · rw [zSc_8, zSc_8, mo 8 (by omega) (by omega) (by omega), ao 11 (Or.inl (by omega)), ao 12 (Or.inl (by omega)), ao 13 (Or.inl (by omega))]
      · rw [zSc_9, zSc_9, lt]
      · rw [zSc_10, zSc_10, lb]
      · rw [zSc_11, zSc_11, lR, mo 11 (by omega) (by omega) (by omega)]
      · rw [zSc_12, zSc_12, lR, mo 12 (by omega) (by omega) (by omega)]
      · rw [zSc_13, zSc_13, lR, mo 13 (by omega) (by omega) (by omega)]
    · subst hz; rw [zSc_p, zSc_p, pw p hp]
    · subst hz
      have e5 : Y 5 p = X 5 p := hr 5 (by decide) (by decide) (by decide) p hp
      have ew : znw S2 Y p = znw S X p := by
        unfold znw
        rw [e5]
        by_cases c : X 5 p < 0
        · rw [if_pos c, if_pos c]
        · rw [if_neg c, if_neg c]
          have em : mH Y p = mH X p := by unfold mH; rw [e5]
          rw [em, pa _ (hH p hp c)]
      rw [zSc_t, zSc_t, ew, ao (22 + 4 * p) (Or.inr (by omega))]
    · subst hz
      rw [zSc_l, zSc_l, tc p hp, mo _ (by omega) (by omega) (by omega)]
      congr 2
      exact List.map_congr_left (fun o ho => by cases o with | none => rfl | some k => show some (S2.pa k) = some (S.pa k); rw [pa k ((hO p hp).2 _ ho k rfl)])
    · subst hz
      rw [zSc_k, zSc_k, kc p hp, mo _ (by omega) (by omega) (by omega)]
      congr 2
      exact List.map_congr_left (fun k hk => by rw [pa k ((hC p hp).2 k hk)])
  refine ⟨fun c hc => ?_, fun c d hc hd z => ?_, fun e he => ?_, fun e he => ?_, fun r hr2 e he => ?_⟩
  · rcases au c hc with hx | rfl | rfl | rfl | rfl
    · rw [ao c hx]
      by_cases z : c = 2
      · subst z
        have ml : (List.range (mN X)).map (fun q => some (S2.pa q)) = (List.range (mN X)).map (fun q => some (S.pa q)) := List.map_congr_left (fun k hk => by show some (S2.pa k) = some (S.pa k); rw [pa k (List.mem_range.mp hk)])
        rw [va_up_self, zSc_2, hn, List.range_succ, List.map_append, mo2, ml]
        show _ = some (Sum.inr (_, _ ++ [some (S2.pa (mN X))]))
        rw [pn]
      · rw [nT c _ hx z (h.cell c hx), cin c hx z]
    · rw [aq, va_up_ne _ _ n2.1.symm, eq_, zSc_p]
    · rw [a1, va_up_ne _ _ n2.2.1.symm, e1, zSc_t, a2]
      unfold znw
      rw [if_pos h5]; rfl
    · rw [a2, va_up_ne _ _ n2.2.2.1.symm, e2, zSc_l, tA, va_up_self, mq2]; rfl
    · rw [a3, va_up_ne _ _ n2.2.2.2.symm, e3, zSc_k, kA, va_up_self, mq3]; rfl
  · have nx : ∀ c, zuse X c → S.A c ≠ q ∧ S.A c ≠ b1 ∧ S.A c ≠ b2 ∧ S.A c ≠ b3 := fun c hc => ne1 _ _ (h.cell c hc)
    obtain ⟨k1, k2, k3, k4, k5, k6⟩ := hne
    rcases au c hc with hx | rfl | rfl | rfl | rfl <;> rcases au d hd with hy | rfl | rfl | rfl | rfl
    · rw [ao c hx, ao d hy] at z; exact h.inj c d hx hy z
    · rw [ao c hx, aq] at z; exact absurd z (nx c hx).1
    · rw [ao c hx, a1] at z; exact absurd z (nx c hx).2.1
    · rw [ao c hx, a2] at z; exact absurd z (nx c hx).2.2.1
    · rw [ao c hx, a3] at z; exact absurd z (nx c hx).2.2.2
    · rw [ao d hy, aq] at z; exact absurd z.symm (nx d hy).1
    · rfl
    · rw [aq, a1] at z; exact absurd z k1
    · rw [aq, a2] at z; exact absurd z k2
    · rw [aq, a3] at z; exact absurd z k3
    · rw [ao d hy, a1] at z; exact absurd z.symm (nx d hy).2.1
    · rw [a1, aq] at z; exact absurd z.symm k1
    · rfl
    · rw [a1, a2] at z; exact absurd z k4
    · rw [a1, a3] at z; exact absurd z k5
    · rw [ao d hy, a2] at z; exact absurd z.symm (nx d hy).2.2.1
    · rw [a2, aq] at z; exact absurd z.symm k2
    · rw [a2, a1] at z; exact absurd z.symm k4
    · rfl
    · rw [a2, a3] at z; exact absurd z k6
    · rw [ao d hy, a3] at z; exact absurd z.symm (nx d hy).2.2.2
    · rw [a3, aq] at z; exact absurd z.symm k3
    · rw [a3, a1] at z; exact absurd z.symm k5
    · rw [a3, a2] at z; exact absurd z.symm k6
    · rfl
  · rw [lL] at he
    have hz := h.log e he
    have hr2 := hL.2 e he
    unfold zWk at hz ⊢
    rw [va_up_ne _ _ (h.ne (c := 2) (Or.inl (by omega)) hz (by omega)), to1 _ _ hz, pa _ hr2.1]
    congr 5
    cases ho : e.2.2.1 with
    | none => rfl
    | some k => show va_rf (some (S.pa k)) = va_rf (some (S2.pa k)); rw [pa k (hr2.2 k ho)]
  · rw [lW] at he
    exact cg e (hW.1.2 e he) (h.wt e he)
  · rw [lR] at he
    exact cg e ((hW.2 r hr2).2 e he) (h.rd r hr2 e he)
theorem zS.pA_0 (S : zS) (n q b1 b2 b3 : Nat) : (S.pA n q b1 b2 b3).A (20 + 4 * n) = q := by
  show va_up (va_up (va_up (va_up _ _ _) _ _) _ _) _ _ _ = _
  rw [va_up_ne _ _ (by omega), va_up_ne _ _ (by omega), va_up_ne _ _ (by omega), va_up_self]
theorem zS.pA_1 (S : zS) (n q b1 b2 b3 : Nat) : (S.pA n q b1 b2 b3).A (21 + 4 * n) = b1 := by
  show va_up (va_up (va_up (va_up _ _ _) _ _) _ _) _ _ _ = _
  rw [va_up_ne _ _ (by omega), va_up_ne _ _ (by omega), va_up_self]
theorem zS.pA_3 (S : zS) (n q b1 b2 b3 : Nat) : (S.pA n q b1 b2 b3).A (23 + 4 * n) = b3 := by
  show va_up (va_up (va_up (va_up _ _ _) _ _) _ _) _ _ _ = _
  rw [va_up_self]
theorem m_ends_row {Z W : zX} {i j k : Nat} (hij : mHd Z i = j) (hk : Z k = W k) : m_ends Z i k = zu W 11 j 0 k := by
  unfold m_ends
  rw [hij]
  by_cases e : k = 11
  · subst e; rw [zu_row, zu_row, hk]
  · rw [zu_row_ne _ _ _ e, zu_row_ne _ _ _ e, hk]
theorem m_moves_row2 {Z W : zX} {p k : Nat} {to : Int32} (hk : Z k = W k) (h : k < 23) : m_moves Z p to k = zu W 5 p to k := by
  unfold m_moves
  rw [zu_row_ne _ _ _ (by omega), zu_row_ne _ _ _ (by omega), zu_row_ne _ _ _ (by omega)]
  by_cases e : k = 5
  · subst e; rw [zu_row, zu_row, hk]
  · rw [zu_row_ne _ _ _ e, zu_row_ne _ _ _ e, hk]
/-- how the system's lists are the model's numbers -/
def zCt (S : zS) (X : zX) : Prop := (∀ h, h < mN X → ∀ p, p < mN X → (S.K h).countP (fun q => decide (X 2 q = X 2 p)) = mIn X (nI h) (X 2 p)) ∧ (∀ h, h < mN X → (S.K h).length = mIn X (nI h) (-1)) ∧ ∀ p h, p < mN X → h < mN X → X 5 p = -1 → (S.K h).length + 1 = mIn (m_moves (zu X 0 0 0) p (nI h)) (nI h) (-1)
theorem m_ends_00 (Z : zX) (p : Nat) : m_ends Z p 0 0 = Z 0 0 := by unfold m_ends; rw [zu_row_ne _ _ _ (by decide)]
theorem m_moves_00 (Z : zX) (p : Nat) (to : Int32) : m_moves Z p to 0 0 = Z 0 0 := by
  unfold m_moves; rw [zu_row_ne _ _ _ (by decide), zu_row_ne _ _ _ (by decide), zu_row_ne _ _ _ (by decide), zu_row_ne _ _ _ (by decide)]
