/-! LISTS CHANGED, as cells -/
theorem zTM.list {g : zG} {T : zT} {M M' : Nat → Option va_E} {bk : Nat → Nat} (h : zTM g T M bk) (h0 : M (zd0 g) = some (zQ g 0 (fun _ => none))) {a b' : Nat} {mu mu' : Int32} {xs xs' : List (Option Nat)} (ha : T a = some (.inr (mu, xs))) (hL : zLs g M' a mu' xs' b') (hb : b' = bk a ∨ (M b' = none ∧ zd0 g ≠ b')) (hd : b' = zd0 g → M' b' = M b') (hfr : ∀ q, q ≠ a → q ≠ b' → M' q = M q) :
    zTM g (va_up T a (some (.inr (mu', xs')))) M' (va_up bk a b') := by
  have hTb : T b' = none := by
    rcases hb with z | ⟨z, -⟩
    · rw [z]; exact h.2.2.1 a _ ha
    · exact h.nil z
  have hab : b' ≠ a := fun z => by rw [z, ha] at hTb; cases hTb
  obtain ⟨h1, h2, h3, h4, h5⟩ := h
  have hcell : ∀ q x, T q = some x → q ≠ a → M' q = M q := fun q x hq hn => hfr q hn (fun z => by rw [z, hTb] at hq; cases hq)
  have hbk : ∀ c v, T c = some (.inr v) → c ≠ a → M' (bk c) = M (bk c) ∧ (bk c = b' → b' = zd0 g) := fun c v hc hn => by
    have hba : bk c ≠ a := fun z => by have := h3 c v hc; rw [z, ha] at this; cases this
    have key : bk c = b' → b' = zd0 g := fun z => by
      rcases hb with y | ⟨y, -⟩
      · rw [y] at z
        by_cases w : bk c = zd0 g
        · rw [y, ← z]; exact w
        · exact absurd (h4 c a v _ hc ha z w) hn
      · obtain ⟨-, cap, f, k2, -⟩ := h2 c v.1 v.2 hc
        rw [z, y] at k2; cases k2
    refine ⟨?_, key⟩
    by_cases z : bk c = b'
    · rw [z]; exact hd (key z)
    · exact hfr _ hba z
  refine ⟨fun q e hq => ?_, fun q mu1 xs1 hq => ?_, fun q v hq => ?_, fun q r v w hq hr he hn => ?_, ?_⟩
  · by_cases z : q = a
    · subst z; rw [va_up_self] at hq; cases hq
    · rw [va_up_ne _ _ z] at hq
      rw [hcell q _ hq z]
      exact h1 q e hq
  · by_cases z : q = a
    · subst z
      rw [va_up_self] at hq ⊢
      cases hq
      exact hL
    · rw [va_up_ne _ _ z] at hq ⊢
      obtain ⟨k1, cap, f, k2, k3⟩ := h2 q mu1 xs1 hq
      exact ⟨by rw [hcell q _ hq z]; exact k1, cap, f, by rw [(hbk q _ hq z).1]; exact k2, k3⟩
  · by_cases z : q = a
    · subst z
      rw [va_up_self, va_up_ne _ _ hab]
      exact hTb
    · rw [va_up_ne _ _ z] at hq ⊢
      have hba : bk q ≠ a := fun y => by have := h3 q v hq; rw [y, ha] at this; cases this
      rw [va_up_ne _ _ hba]
      exact h3 q v hq
  · by_cases z : q = a
    · by_cases y : r = a
      · rw [z, y]
      · subst z
        rw [va_up_ne _ _ y] at hr he
        rw [va_up_self] at he hn
        exact absurd ((hbk r _ hr y).2 he.symm) hn
    · by_cases y : r = a
      · subst y
        rw [va_up_ne _ _ z] at hq he hn
        rw [va_up_self] at he
        exact absurd (he.trans ((hbk q _ hq z).2 he)) hn
      · rw [va_up_ne _ _ z] at hq he hn
        rw [va_up_ne _ _ y] at hr he
        exact h4 q r v w hq hr he hn
  · rw [va_up_ne _ _ (fun z => by rw [z, ha] at h5; cases h5)]
    exact h5
/-- an object of ArrayList becomes a list -/
theorem zTM.mk {g : zG} {T : zT} {M M' : Nat → Option va_E} {bk : Nat → Nat} (h : zTM g T M bk) (h0 : M (zd0 g) = some (zQ g 0 (fun _ => none))) {a : Nat} {e : va_E} (ha : T a = some (.inl e)) (hM : M' a = some (zo 9 [.int 0, .ref (zd0 g), .int 0])) (hfr : ∀ q, q ≠ a → M' q = M q) :
    zTM g (va_up T a (some (.inr (0, [])))) M' (va_up bk a (zd0 g)) := by
  obtain ⟨h1, h2, h3, h4, h5⟩ := h
  have had : zd0 g ≠ a := fun z => by rw [z, ha] at h5; cases h5
  have hbk : ∀ c v, T c = some (.inr v) → bk c ≠ a := fun c v hc z => by have := h3 c v hc; rw [z, ha] at this; cases this
  refine ⟨fun q e hq => ?_, fun q mu1 xs1 hq => ?_, fun q v hq => ?_, fun q r v w hq hr he hn => ?_, ?_⟩
  · by_cases z : q = a
    · subst z; rw [va_up_self] at hq; cases hq
    · rw [va_up_ne _ _ z] at hq
      rw [hfr q z]
      exact h1 q e hq
  · by_cases z : q = a
    · subst z
      rw [va_up_self] at hq ⊢
      cases hq
      exact ⟨hM, 0, fun _ => none, by rw [hfr _ had]; exact h0, Nat.le_refl _, by decide, fun _ => rfl, fun j x hj => by cases hj⟩
    · rw [va_up_ne _ _ z] at hq ⊢
      obtain ⟨k1, cap, f, k2, k3⟩ := h2 q mu1 xs1 hq
      exact ⟨by rw [hfr q z]; exact k1, cap, f, by rw [hfr _ (hbk q _ hq)]; exact k2, k3⟩
  · by_cases z : q = a
    · subst z
      rw [va_up_self, va_up_ne _ _ had]
      exact h5
    · rw [va_up_ne _ _ z] at hq ⊢
      rw [va_up_ne _ _ (hbk q _ hq)]
      exact h3 q v hq
  · by_cases z : q = a
    · by_cases y : r = a
      · rw [z, y]
      · subst z
        rw [va_up_self] at he hn
        exact absurd rfl hn
    · by_cases y : r = a
      · subst y
        rw [va_up_ne _ _ z] at hq he hn
        rw [va_up_self] at he
        exact absurd he hn
      · rw [va_up_ne _ _ z] at hq he hn
        rw [va_up_ne _ _ y] at hr he
        exact h4 q r v w hq hr he hn
  · rw [va_up_ne _ _ had]
    exact h5
/-- what may lie in a list: a part, a work, a coming train; a list -/
def zEl (T : zT) (x : Option Nat) : Prop := ∀ v, x = some v → (∃ ci vs, T v = some (.inl (zo ci vs)) ∧ (ci = 3 ∨ ci = 5 ∨ ci = 8)) ∨ ∃ w, T v = some (.inr w)
theorem zEl.ok {g : zG} {A : Nat → Prop} {s : State} {T : zT} {M : Nat → Option va_E} {bk : Nat → Nat} {x : Option Nat} (h : zEl T x) (hK : zK g A s) (hT : zTM g T M bk) : zm_elt g s M x := by
  intro v hv
  rcases h v hv with ⟨ci, vs, h1, h2⟩ | ⟨w, h1⟩
  · rcases h2 with rfl | rfl | rfl
    · exact ⟨3, vs, _, hT.1 _ _ h1, rfl, hK.2.1.2.2.1 _ _ q1361⟩
    · exact ⟨5, vs, _, hT.1 _ _ h1, rfl, hK.2.1.2.2.1 _ _ q1365⟩
    · exact ⟨8, vs, _, hT.1 _ _ h1, rfl, hK.2.1.2.2.1 _ _ q1369⟩
  · exact ⟨9, _, _, (hT.2.1 _ _ _ h1).1, rfl, hK.2.1.2.2.1 _ _ q1357⟩
theorem zm_elt.up {g : zG} {s : State} {M : Nat → Option va_E} {x : Option Nat} {q : Nat} {e : va_E} (h : zm_elt g s M x) (hq : ∀ ci vs, M q = some (.inr (ci, vs)) → ∃ ws, e = .inr (ci, ws)) : zm_elt g s (va_up M q (some e)) x := by
  intro v hv
  obtain ⟨ci, vs, r, h1, h2, h3⟩ := h v hv
  by_cases z : v = q
  · subst z
    obtain ⟨ws, rfl⟩ := hq _ _ h1
    exact ⟨ci, ws, r, va_up_self _ _ _, h2, h3⟩
  · exact ⟨ci, vs, r, by rw [va_up_ne _ _ z]; exact h1, h2, h3⟩
