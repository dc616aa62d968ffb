/-! diameters -/
def zDm (X : zX) : Prop := ∀ p, p < mN X → ∃ d, X 13 p = nI d ∧ 8000 ≤ d ∧ d ≤ 9000
theorem zdS_up (X : zX) (f : Nat → Int32) : ∀ (L : List Nat) (acc : Int32), acc ≤ L.foldl (zdS X true f) acc ∧ (∀ q ∈ L, ¬ X 2 q = 4 → f q ≤ L.foldl (zdS X true f) acc) ∧ (L.foldl (zdS X true f) acc = acc ∨ ∃ q ∈ L, ¬ X 2 q = 4 ∧ L.foldl (zdS X true f) acc = f q) := by
  intro L
  induction L with
  | nil => intro acc; exact ⟨Int32.le_refl _, fun q hq => absurd hq List.not_mem_nil, Or.inl rfl⟩
  | cons a L ih =>
    intro acc
    have e : (a :: L).foldl (zdS X true f) acc = L.foldl (zdS X true f) (zdS X true f acc a) := rfl
    rw [e]
    obtain ⟨h1, h2, h3⟩ := ih (zdS X true f acc a)
    by_cases m : X 2 a = 4
    · have es : zdS X true f acc a = acc := zdS_m m
      rw [es] at h1 h2 h3 ⊢
      refine ⟨h1, fun q hq hm => ?_, ?_⟩
      · rcases List.mem_cons.mp hq with z | z
        · rw [z] at hm; exact absurd m hm
        · exact h2 q z hm
      · rcases h3 with z | ⟨q, hq, hm, z⟩
        · exact Or.inl z
        · exact Or.inr ⟨q, List.mem_cons_of_mem _ hq, hm, z⟩
    · have es : zdS X true f acc a = if acc < f a then f a else acc := zdS_t m rfl
      rw [es] at h1 h2 h3 ⊢
      have ha : acc ≤ (if acc < f a then f a else acc) ∧ f a ≤ (if acc < f a then f a else acc) := by
        by_cases c : acc < f a
        · rw [if_pos c]; exact ⟨Int32.le_of_lt c, Int32.le_refl _⟩
        · rw [if_neg c]; exact ⟨Int32.le_refl _, Int32.not_lt.mp c⟩
      refine ⟨Int32.le_trans ha.1 h1, fun q hq hm => ?_, ?_⟩
      · rcases List.mem_cons.mp hq with z | z
        · rw [z]; exact Int32.le_trans ha.2 h1
        · exact h2 q z hm
      · rcases h3 with z | ⟨q, hq, hm, z⟩
        · rw [z]
          by_cases c : acc < f a
          · rw [if_pos c]; exact Or.inr ⟨a, List.mem_cons_self, m, rfl⟩
          · rw [if_neg c]; exact Or.inl rfl
        · exact Or.inr ⟨q, List.mem_cons_of_mem _ hq, hm, z⟩
theorem zdS_dn (X : zX) (f : Nat → Int32) : ∀ (L : List Nat) (acc : Int32), L.foldl (zdS X false f) acc ≤ acc ∧ (∀ q ∈ L, ¬ X 2 q = 4 → L.foldl (zdS X false f) acc ≤ f q) ∧ (L.foldl (zdS X false f) acc = acc ∨ ∃ q ∈ L, ¬ X 2 q = 4 ∧ L.foldl (zdS X false f) acc = f q) := by
  intro L
  induction L with
  | nil => intro acc; exact ⟨Int32.le_refl _, fun q hq => absurd hq List.not_mem_nil, Or.inl rfl⟩
  | cons a L ih =>
    intro acc
    have e : (a :: L).foldl (zdS X false f) acc = L.foldl (zdS X false f) (zdS X false f acc a) := rfl
    rw [e]
    obtain ⟨h1, h2, h3⟩ := ih (zdS X false f acc a)
    by_cases m : X 2 a = 4
    · have es : zdS X false f acc a = acc := zdS_m m
      rw [es] at h1 h2 h3 ⊢
      refine ⟨h1, fun q hq hm => ?_, ?_⟩
      · rcases List.mem_cons.mp hq with z | z
        · rw [z] at hm; exact absurd m hm
        · exact h2 q z hm
      · rcases h3 with z | ⟨q, hq, hm, z⟩
        · exact Or.inl z
        · exact Or.inr ⟨q, List.mem_cons_of_mem _ hq, hm, z⟩
    · have es : zdS X false f acc a = if f a < acc then f a else acc := zdS_f m rfl
      rw [es] at h1 h2 h3 ⊢
      have ha : (if f a < acc then f a else acc) ≤ acc ∧ (if f a < acc then f a else acc) ≤ f a := by
        by_cases c : f a < acc
        · rw [if_pos c]; exact ⟨Int32.le_of_lt c, Int32.le_refl _⟩
        · rw [if_neg c]; exact ⟨Int32.le_refl _, Int32.not_lt.mp c⟩
      refine ⟨Int32.le_trans h1 ha.1, fun q hq hm => ?_, ?_⟩
      · rcases List.mem_cons.mp hq with z | z
        · rw [z]; exact Int32.le_trans h1 ha.2
        · exact h2 q z hm
      · rcases h3 with z | ⟨q, hq, hm, z⟩
        · rw [z]
          by_cases c : f a < acc
          · rw [if_pos c]; exact Or.inr ⟨a, List.mem_cons_self, m, rfl⟩
          · rw [if_neg c]; exact Or.inl rfl
        · exact Or.inr ⟨q, List.mem_cons_of_mem _ hq, hm, z⟩
theorem zDn_mo {S : zS} {X : zX} (h : zBt S X) {q p : Nat} (hq : q < mN X) (h4 : X 2 q = 4) : ∀ n, p ∈ zDn S n q → ¬ X 2 p = 3 := by
  intro n hp
  have hk : mK X q = 4 := by unfold mK; rw [h4]; decide
  cases n with
  | zero => exact absurd hp List.not_mem_nil
  | succ n =>
    have hp : p ∈ q :: (S.K q).flatMap (zDn S n) := hp
    rw [h.leaf hq (by omega)] at hp
    rw [List.mem_singleton.mp hp, h4]; decide
theorem zdi_up {S : zS} {X : zX} (h : zBt S X) (hd : zDm X) : ∀ n i, i < mN X → (∀ p ∈ zDn S n i, X 2 p = 3 → X 13 p ≤ zdi S X true n i) ∧ ((zdi S X true n i = 0) ∨ ∃ p ∈ zDn S n i, X 2 p = 3 ∧ zdi S X true n i = X 13 p) := by
  intro n
  induction n with
  | zero => intro i _; exact ⟨fun p hp => absurd hp List.not_mem_nil, Or.inl rfl⟩
  | succ n ih =>
    intro i hi
    obtain ⟨h1, h2, h3⟩ := zdS_up X (zdi S X true n) (S.K i) (if X 2 i = 3 then X 13 i else if true = true then 0 else 2147483647)
    refine ⟨fun p hp h33 => ?_, ?_⟩
    · show X 13 p ≤ (S.K i).foldl (zdS X true (zdi S X true n)) (if X 2 i = 3 then X 13 i else if true = true then 0 else 2147483647)
      have hp : p ∈ i :: (S.K i).flatMap (zDn S n) := hp
      rcases List.mem_cons.mp hp with z | z
      · subst z
        rw [if_pos h33] at h1 ⊢
        exact h1
      · obtain ⟨q, hq, hpq⟩ := List.mem_flatMap.mp z
        have hql := (h.hst hi hq).1
        have hm : ¬ X 2 q = 4 := fun z4 => zDn_mo h hql z4 n hpq h33
        exact Int32.le_trans ((ih q hql).1 p hpq h33) (h2 q hq hm)
    · show (S.K i).foldl (zdS X true (zdi S X true n)) (if X 2 i = 3 then X 13 i else if true = true then 0 else 2147483647) = 0 ∨ _
      rcases h3 with z | ⟨q, hq, hm, z⟩
      · by_cases c : X 2 i = 3
        · right
          refine ⟨i, List.mem_cons_self, c, ?_⟩
          show (S.K i).foldl (zdS X true (zdi S X true n)) (if X 2 i = 3 then X 13 i else if true = true then 0 else 2147483647) = _
          rw [z, if_pos c]
        · left; rw [z, if_neg c]; rfl
      · rcases (ih q (h.hst hi hq).1).2 with y | ⟨p, hp, k1, k2⟩
        · left; rw [z]; exact y
        · right
          refine ⟨p, List.mem_cons_of_mem _ (List.mem_flatMap.mpr ⟨q, hq, hp⟩), k1, ?_⟩
          show (S.K i).foldl (zdS X true (zdi S X true n)) (if X 2 i = 3 then X 13 i else if true = true then 0 else 2147483647) = _
          rw [z]; exact k2
theorem zdi_dn {S : zS} {X : zX} (h : zBt S X) (hd : zDm X) : ∀ n i, i < mN X → 0 < n → (∀ p ∈ zDn S n i, X 2 p = 3 → 5 ≤ mK X i + n → zdi S X false n i ≤ X 13 p) ∧ (5 ≤ mK X i + n → (zdi S X false n i = 2147483647) ∨ ∃ p ∈ zDn S n i, X 2 p = 3 ∧ zdi S X false n i = X 13 p) := by
  intro n
  induction n with
  | zero => intro i _ h0; omega
  | succ n ih =>
    intro i hi _
    obtain ⟨h1, h2, h3⟩ := zdS_dn X (zdi S X false n) (S.K i) (if X 2 i = 3 then X 13 i else if false = true then 0 else 2147483647)
    have hkn : 5 ≤ mK X i + (n + 1) → ∀ q ∈ S.K i, 0 < n ∧ 5 ≤ mK X q + n := fun h5 q hq => by
      have := h.kk i hi q hq
      have := (h.1.2.1 q (h.hst hi hq).1).2
      omega
    refine ⟨fun p hp h33 h5 => ?_, fun h5 => ?_⟩
    · show (S.K i).foldl (zdS X false (zdi S X false n)) (if X 2 i = 3 then X 13 i else if false = true then 0 else 2147483647) ≤ X 13 p
      have hp : p ∈ i :: (S.K i).flatMap (zDn S n) := hp
      rcases List.mem_cons.mp hp with z | z
      · subst z
        rw [if_pos h33] at h1 ⊢
        exact h1
      · obtain ⟨q, hq, hpq⟩ := List.mem_flatMap.mp z
        have hql := (h.hst hi hq).1
        have hm : ¬ X 2 q = 4 := fun z4 => zDn_mo h hql z4 n hpq h33
        obtain ⟨k1, k2⟩ := hkn h5 q hq
        exact Int32.le_trans (h2 q hq hm) ((ih q hql k1).1 p hpq h33 k2)
    · show (S.K i).foldl (zdS X false (zdi S X false n)) (if X 2 i = 3 then X 13 i else if false = true then 0 else 2147483647) = 2147483647 ∨ _
      rcases h3 with z | ⟨q, hq, hm, z⟩
      · by_cases c : X 2 i = 3
        · right
          refine ⟨i, List.mem_cons_self, c, ?_⟩
          show (S.K i).foldl (zdS X false (zdi S X false n)) (if X 2 i = 3 then X 13 i else if false = true then 0 else 2147483647) = _
          rw [z, if_pos c]
        · left; rw [z, if_neg c]; rfl
      · obtain ⟨k1, k2⟩ := hkn h5 q hq
        rcases (ih q (h.hst hi hq).1 k1).2 k2 with y | ⟨p, hp, y1, y2⟩
        · left; rw [z]; exact y
        · right
          refine ⟨p, List.mem_cons_of_mem _ (List.mem_flatMap.mpr ⟨q, hq, hp⟩), y1, ?_⟩
          show (S.K i).foldl (zdS X false (zdi S X false n)) (if X 2 i = 3 then X 13 i else if false = true then 0 else 2147483647) = _
          rw [z]; exact y2
/-- the model's least and most -/
theorem zap_c (X : zX) (q : Nat) : ∀ j, (∀ p, p < j → mAi X q p = true → (zap X q j).1 ≤ X 13 p ∧ X 13 p ≤ (zap X q j).2) ∧ ((zap X q j).1 = 1000000 ∧ (zap X q j).2 = -1000000 ∧ (∀ p, p < j → mAi X q p = true → False) ∨ ((zap X q j).1 = 1000000 ∨ ∃ p, p < j ∧ mAi X q p = true ∧ (zap X q j).1 = X 13 p) ∧ ((zap X q j).2 = -1000000 ∨ ∃ p, p < j ∧ mAi X q p = true ∧ (zap X q j).2 = X 13 p)) := by
  intro j
  induction j with
  | zero => exact ⟨fun p h => by omega, Or.inl ⟨rfl, rfl, fun p h => by omega⟩⟩
  | succ j ih =>
    have e1 : (zap X q (j + 1)).1 = if mAi X q j = true ∧ ¬ (zap X q j).1 ≤ X 13 j then X 13 j else (zap X q j).1 := rfl
    have e2 : (zap X q (j + 1)).2 = if mAi X q j = true ∧ ¬ X 13 j ≤ (zap X q j).2 then X 13 j else (zap X q j).2 := rfl
    have hl : (zap X q (j + 1)).1 ≤ (zap X q j).1 := by
      rw [e1]; split
      · next c => exact Int32.le_of_lt (Int32.not_le.mp c.2)
      · exact Int32.le_refl _
    have hu : (zap X q j).2 ≤ (zap X q (j + 1)).2 := by
      rw [e2]; split
      · next c => exact Int32.le_of_lt (Int32.not_le.mp c.2)
      · exact Int32.le_refl _
    obtain ⟨i1, i2⟩ := ih
    refine ⟨fun p hp hm => ?_, ?_⟩
    · by_cases z : p = j
      · subst z
        rw [e1, e2]
        refine ⟨?_, ?_⟩
        · by_cases c : (zap X q p).1 ≤ X 13 p
          · rw [if_neg (fun z => z.2 c)]; exact c
          · rw [if_pos ⟨hm, c⟩]; exact Int32.le_refl _
        · by_cases c : X 13 p ≤ (zap X q p).2
          · rw [if_neg (fun z => z.2 c)]; exact c
          · rw [if_pos ⟨hm, c⟩]; exact Int32.le_refl _
      · obtain ⟨k1, k2⟩ := i1 p (by omega) hm
        exact ⟨Int32.le_trans hl k1, Int32.le_trans k2 hu⟩
    · by_cases hm : mAi X q j = true
      · right
        refine ⟨?_, ?_⟩
        · rw [e1]
          by_cases c : (zap X q j).1 ≤ X 13 j
          · rw [if_neg (fun z => z.2 c)]
            rcases i2 with ⟨y, -⟩ | ⟨y | ⟨p, y1, y2, y3⟩, -⟩
            · exact Or.inl y
            · exact Or.inl y
            · exact Or.inr ⟨p, by omega, y2, y3⟩
          · rw [if_pos ⟨hm, c⟩]; exact Or.inr ⟨j, by omega, hm, rfl⟩
        · rw [e2]
          by_cases c : X 13 j ≤ (zap X q j).2
          · rw [if_neg (fun z => z.2 c)]
            rcases i2 with ⟨-, y, -⟩ | ⟨-, y | ⟨p, y1, y2, y3⟩⟩
            · exact Or.inl y
            · exact Or.inl y
            · exact Or.inr ⟨p, by omega, y2, y3⟩
          · rw [if_pos ⟨hm, c⟩]; exact Or.inr ⟨j, by omega, hm, rfl⟩
      · rw [e1, e2, if_neg (fun z => hm z.1), if_neg (fun z => hm z.1)]
        rcases i2 with ⟨y1, y2, y3⟩ | ⟨y1, y2⟩
        · exact Or.inl ⟨y1, y2, fun p hp hz => by
            by_cases z : p = j
            · rw [z] at hz; exact hm hz
            · exact y3 p (by omega) hz⟩
        · right
          refine ⟨?_, ?_⟩
          · rcases y1 with y | ⟨p, k1, k2, k3⟩
            · exact Or.inl y
            · exact Or.inr ⟨p, by omega, k2, k3⟩
          · rcases y2 with y | ⟨p, k1, k2, k3⟩
            · exact Or.inl y
            · exact Or.inr ⟨p, by omega, k2, k3⟩
