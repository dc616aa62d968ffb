/-! iterators over the world's lists -/
theorem zn_F_has : zN ⟨"java/util/Iterator", "hasNext", "()Z"⟩ 0 := by decide +kernel
theorem zn_F_nxt : zN ⟨"java/util/Iterator", "next", "()Ljava/lang/Object;"⟩ 0 := by decide +kernel
theorem zSy.itu {S : zS} {g : zG} {X : zX} {T : zT} (h : zSy S g X T) {q : Nat} {fs : List Value} (hq : T q = some (.inl (zo 10 fs))) (e : zE) : zSy S g X (va_up T q (some e)) := h.other hq (by decide) (by decide) (by decide) e
/-- turn: the two rounds over the parts -/
def zt1 (s : Int32 × zX) (q : Nat) : Int32 × zX := if s.2 2 q = 3 then (s.1 + (m_trues s.2 q).1, (m_trues s.2 q).2) else s
def zt2 (l : Int32) (s : Int32 × zX) (q : Nat) : Int32 × zX := if s.2 2 q = 3 then (s.1 + (s.2 13 q - l), zu s.2 13 q l) else s
def ztn (S : zS) (X : zX) (i : Nat) : Int32 × zX := (S.K i).foldl (zt2 (zdi S ((S.K i).foldl zt1 (0, X)).2 false 5 i)) ((S.K i).foldl zt1 (0, X))
theorem m_trues_keep (X : zX) (w : Nat) {r : Nat} (h13 : r ≠ 13) (h14 : r ≠ 14) : (m_trues X w).2 r = X r := by
  show zu (zu _ _ _ _) _ _ _ r = _
  rw [zu_row_ne _ _ _ h14, zu_row_ne _ _ _ h13]
theorem zt1_keep {r : Nat} (h13 : r ≠ 13) (h14 : r ≠ 14) : ∀ (L : List Nat) (s : Int32 × zX), (L.foldl zt1 s).2 r = s.2 r := by
  intro L
  induction L with
  | nil => intro s; rfl
  | cons q L ih =>
    intro s
    show (L.foldl zt1 (zt1 s q)).2 r = _
    rw [ih]
    unfold zt1
    split
    · exact m_trues_keep _ _ h13 h14
    · rfl
theorem zt2_keep {l : Int32} {r : Nat} (h13 : r ≠ 13) : ∀ (L : List Nat) (s : Int32 × zX), (L.foldl (zt2 l) s).2 r = s.2 r := by
  intro L
  induction L with
  | nil => intro s; rfl
  | cons q L ih =>
    intro s
    show (L.foldl (zt2 l) (zt2 l s q)).2 r = _
    rw [ih]
    unfold zt2
    split
    · exact zu_row_ne _ _ _ h13
    · rfl
theorem mTu_00 (X : zX) (a b : Nat) : (mTu X a b).2 0 0 = X 0 0 := by
  unfold mTu mTu1
  show zu (zu (m_trues (m_trues X a).2 b).2 13 a (mTuL X a b)) 13 b (mTuL X a b) 0 0 = X 0 0
  rw [zu_row_ne _ _ _ (by decide), zu_row_ne _ _ _ (by decide), m_trues_keep _ _ (by decide) (by decide), m_trues_keep _ _ (by decide) (by decide)]
/-- recall, with the mark of thrown -/
theorem zrc_0 (X : zX) (a v : Int32) : ∀ j, zrc (zu X 0 0 v) a j = ((zrc X a j).1, zu (zrc X a j).2 0 0 v) := by
  intro j
  induction j with
  | zero => rfl
  | succ j ih =>
    have e3 : zu X 0 0 v 3 = X 3 := zu_row_ne _ _ _ (by decide)
    have e5 : zu X 0 0 v 5 = X 5 := zu_row_ne _ _ _ (by decide)
    have e10 : zu (zrc X a j).2 0 0 v 10 = (zrc X a j).2 10 := zu_row_ne _ _ _ (by decide)
    show (if zu X 0 0 v 3 j = a ∧ ¬ zu X 0 0 v 5 j = -2 ∧ (zrc (zu X 0 0 v) a j).2 10 j = 0 then ((zrc (zu X 0 0 v) a j).1 + 1, m_ends (zu (zrc (zu X 0 0 v) a j).2 10 j 1) j) else zrc (zu X 0 0 v) a j) = ((if X 3 j = a ∧ ¬ X 5 j = -2 ∧ (zrc X a j).2 10 j = 0 then ((zrc X a j).1 + 1, m_ends (zu (zrc X a j).2 10 j 1) j) else zrc X a j).1, zu (if X 3 j = a ∧ ¬ X 5 j = -2 ∧ (zrc X a j).2 10 j = 0 then ((zrc X a j).1 + 1, m_ends (zu (zrc X a j).2 10 j 1) j) else zrc X a j).2 0 0 v)
    rw [ih, e3, e5]
    dsimp only
    have e10j : zu (zrc X a j).2 0 0 v 10 j = (zrc X a j).2 10 j := congrFun e10 j
    by_cases c : X 3 j = a ∧ ¬ X 5 j = -2 ∧ (zrc X a j).2 10 j = 0
    case neg => rw [if_neg c, if_neg (by rw [e10j]; exact c)]
    rw [if_pos c, if_pos (by rw [e10j]; exact c)]
    refine Prod.ext rfl ?_
    show m_ends (zu (zu (zrc X a j).2 0 0 v) 10 j 1) j = zu (m_ends (zu (zrc X a j).2 10 j 1) j) 0 0 v
    unfold m_ends
    rw [zu_comm _ (show (11 : Nat) ≠ 0 by decide), zu_comm _ (show (10 : Nat) ≠ 0 by decide), mHd_w _ _ _ _ (by decide), mHd_w _ _ _ _ (by decide), mHd_w _ _ _ _ (by decide)]
