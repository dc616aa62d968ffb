/-! what a way costs: the model's sum is the system's -/
def zqA (P : Nat → Nat → Bool) : Nat → Nat → Nat
  | 0, _ => 0
  | n + 1, m => zqA P n m + zct (fun b => P n b && decide (n < b)) m
def zqB (P : Nat → Nat → Bool) : Nat → Nat
  | 0 => 0
  | n + 1 => zqB P n + zct (fun a => P a n) n
theorem zqA_col (P : Nat → Nat → Bool) : ∀ n m, zqA P n (m + 1) = zqA P n m + zct (fun a => P a m && decide (a < m)) n := by
  intro n
  induction n with
  | zero => intro m; rfl
  | succ n ih =>
    intro m
    show zqA P n (m + 1) + zct (fun b => P n b && decide (n < b)) (m + 1) = zqA P n m + zct (fun b => P n b && decide (n < b)) m + (zct (fun a => P a m && decide (a < m)) n + (if (P n m && decide (n < m)) = true then 1 else 0))
    rw [ih]
    show _ + (zct (fun b => P n b && decide (n < b)) m + (if (P n m && decide (n < m)) = true then 1 else 0)) = _
    omega
theorem zct_0 {f : Nat → Bool} : ∀ n, (∀ p, p < n → f p = false) → zct f n = 0 := by
  intro n
  induction n with
  | zero => intro _; rfl
  | succ n ih => intro h; unfold zct; rw [ih (fun p hp => h p (by omega)), h n (by omega)]; rfl
theorem zqAB (P : Nat → Nat → Bool) : ∀ n, zqA P n n = zqB P n := by
  intro n
  induction n with
  | zero => rfl
  | succ n ih =>
    show zqA P n (n + 1) + zct (fun b => P n b && decide (n < b)) (n + 1) = zqB P n + zct (fun a => P a n) n
    rw [zqA_col, ih, zct_0 (f := fun b => P n b && decide (n < b)) (n + 1) (fun p hp => by rw [decide_eq_false (show ¬ n < p by omega), Bool.and_false]), zct_cg (f := fun a => P a n && decide (a < n)) (g := fun a => P a n) n (fun p hp => by rw [decide_eq_true hp, Bool.and_true])]
    omega
def zP2 (W : List zC3) (g : Nat → Int32) (a b : Nat) : Bool := decide (g a = g b) && decide (zwt W a < zwt W b)
theorem zcs_ok {W : List zC3} {g : Nat → Int32} : ∀ m, (∀ one, one < m → zct (zsa g (g one)) one < 4) → zcs W g m = zqB (zP2 W g) m ∧ zcs W g m ≤ m * m := by
  intro m
  induction m with
  | zero => intro _; exact ⟨rfl, Nat.le_refl _⟩
  | succ m ih =>
    intro h
    obtain ⟨h1, h2⟩ := ih (fun one ho => h one (by omega))
    have e : zsm W g m (g m) = zct (zsb W g m (g m)) m := by unfold zsm; rw [if_pos (h m (by omega))]
    have e2 : zct (zsb W g m (g m)) m = zct (fun a => zP2 W g a m) m := rfl
    have hl := zct_le (zsb W g m (g m)) m
    refine ⟨?_, ?_⟩
    · show zcs W g m + zsm W g m (g m) = zqB (zP2 W g) m + zct (fun a => zP2 W g a m) m
      rw [h1, e, e2]
    · show zcs W g m + zsm W g m (g m) ≤ _
      rw [e]
      have : (m + 1) * (m + 1) = m * m + 2 * m + 1 := by rw [Nat.succ_mul, Nat.mul_succ]; omega
      omega
theorem zcs_mono {W : List zC3} {g : Nat → Int32} : ∀ {a b : Nat}, a ≤ b → zcs W g a ≤ zcs W g b := by
  intro a b h
  induction b with
  | zero => rw [show a = 0 by omega]; exact Nat.le_refl _
  | succ b ih =>
    by_cases e : a = b + 1
    · rw [e]; exact Nat.le_refl _
    · exact Nat.le_trans (ih (by omega)) (Nat.le_add_right _ _)
theorem zcs_no {W : List zC3} {g : Nat → Int32} {n one : Nat} (ho : one < n) (h : ¬ zct (zsa g (g one)) one < 4) : 1000 ≤ zcs W g n := by
  have h1 : zcs W g (one + 1) ≤ zcs W g n := zcs_mono (by omega)
  have h2 : zcs W g (one + 1) = zcs W g one + zsm W g one (g one) := rfl
  have h3 : zsm W g one (g one) = 1000 := by unfold zsm; rw [if_neg h]
  omega
theorem zct_5 {f : Nat → Bool} : ∀ n, 4 < zct f n → ∃ one, one < n ∧ f one = true ∧ 4 ≤ zct f one := by
  intro n
  induction n with
  | zero => intro h; exact absurd h (Nat.not_lt_zero _)
  | succ n ih =>
    intro h
    by_cases c : 4 < zct f n
    · obtain ⟨one, h1, h2⟩ := ih c; exact ⟨one, by omega, h2⟩
    · have e : zct f (n + 1) = zct f n + (if f n = true then 1 else 0) := rfl
      by_cases q : f n = true
      · rw [if_pos q] at e; exact ⟨n, by omega, q, by omega⟩
      · rw [if_neg q] at e; omega
theorem zfea {Y : zX} {n : Nat} : (∀ one, one < n → zct (zsa (Y 30) (Y 30 one)) one < 4) ↔ ∀ a, a < n → ¬ 4 < zct (mSf Y a) n := by
  have e : ∀ a m, (∀ one, Y 30 one = Y 30 a → zct (zsa (Y 30) (Y 30 one)) m = zct (mSf Y a) m) := fun a m one h => zct_cg m (fun p _ => by
    unfold zsa mSf
    rw [h]
    by_cases c : Y 30 p = Y 30 a
    · rw [decide_eq_true c, decide_eq_true c.symm]
    · rw [decide_eq_false c, decide_eq_false (fun z => c z.symm)])
  constructor
  · intro h a ha h4
    obtain ⟨one, h1, h2, h3⟩ := zct_5 n h4
    have h5 := h one h1
    rw [e a one one (of_decide_eq_true h2).symm] at h5
    omega
  · intro h one ho
    have h1 := h one ho
    have h2 : zct (mSf Y one) (one + 1) ≤ zct (mSf Y one) n := zct_mono _ (by omega)
    have h3 : zct (mSf Y one) (one + 1) = zct (mSf Y one) one + 1 := by
      show zct (mSf Y one) one + (if mSf Y one one = true then 1 else 0) = _
      rw [if_pos (show mSf Y one one = true from decide_eq_true rfl)]
    rw [e one one one rfl]
    omega
theorem zmo_t {Y : zX} {P : Nat → Nat → Bool} (hP : ∀ a, a < mW Y → ∀ b, b < mW Y → mTf Y a b = (P a b && decide (a < b))) : ∀ k a su, a + k = mW Y → (∀ j, a ≤ j → j < mW Y → ¬ 4 < zct (mSf Y j) (mW Y)) → zmo Y k a su = nI (su + (zqA P (a + k) (mW Y) - zqA P a (mW Y))) ∧ zqA P a (mW Y) ≤ zqA P (a + k) (mW Y) := by
  intro k
  induction k with
  | zero => intro a su _ _; exact ⟨by show nI su = _; rw [Nat.add_zero, Nat.sub_self, Nat.add_zero], Nat.le_refl _⟩
  | succ k ih =>
    intro a su hk h
    have e : zmo Y (k + 1) a su = if 4 < zct (mSf Y a) (mW Y) then -1 else zmo Y k (a + 1) (su + zct (mTf Y a) (mW Y)) := rfl
    rw [e, if_neg (h a (Nat.le_refl _) (by omega))]
    obtain ⟨h1, h2⟩ := ih (a + 1) (su + zct (mTf Y a) (mW Y)) (by omega) (fun j hj hj2 => h j (by omega) hj2)
    have e1 : zct (mTf Y a) (mW Y) = zct (fun b => P a b && decide (a < b)) (mW Y) := zct_cg _ (fun b hb => hP a (by omega) b hb)
    have e2 : zqA P (a + 1) (mW Y) = zqA P a (mW Y) + zct (fun b => P a b && decide (a < b)) (mW Y) := rfl
    rw [show a + (k + 1) = a + 1 + k by omega]
    refine ⟨?_, by omega⟩
    rw [h1]
    congr 1
    omega
theorem zmo_f {Y : zX} : ∀ k a su, (∃ j, a ≤ j ∧ j < a + k ∧ 4 < zct (mSf Y j) (mW Y)) → zmo Y k a su = -1 := by
  intro k
  induction k with
  | zero => intro a su ⟨j, h1, h2, _⟩; omega
  | succ k ih =>
    intro a su ⟨j, h1, h2, h3⟩
    have e : zmo Y (k + 1) a su = if 4 < zct (mSf Y a) (mW Y) then -1 else zmo Y k (a + 1) (su + zct (mTf Y a) (mW Y)) := rfl
    rw [e]
    split
    · rfl
    · next c =>
      refine ih _ _ ⟨j, ?_, by omega, h3⟩
      by_cases z : j = a
      · rw [z] at h3; exact absurd h3 c
      · omega
/-- the model's cost of a way -/
theorem mMo_eq {Y : zX} {W : List zC3} {n : Nat} (hn : mW Y = n) (hn8 : n ≤ 8) (ht : ∀ k, k < n → zwt W k = Y 28 (mWt Y k)) : mMo Y = if zcs W (Y 30) n < 1000 then nI (zcs W (Y 30) n) else -1 := by
  unfold mMo
  by_cases hF : ∀ one, one < n → zct (zsa (Y 30) (Y 30 one)) one < 4
  · obtain ⟨h1, h2⟩ := zcs_ok (W := W) n hF
    have h3 : n * n ≤ 8 * 8 := Nat.mul_le_mul hn8 hn8
    have hF2 := zfea.mp hF
    obtain ⟨h4, -⟩ := zmo_t (Y := Y) (P := zP2 W (Y 30)) (fun a ha b hb => by
      rw [hn] at ha hb
      unfold mTf mSf zP2
      rw [ht a ha, ht b hb]
      have : decide (¬ Y 28 (mWt Y b) ≤ Y 28 (mWt Y a)) = decide (Y 28 (mWt Y a) < Y 28 (mWt Y b)) := by congr 1; exact propext Int32.not_le
      rw [this, Bool.and_right_comm]) (mW Y) 0 0 (by omega) (fun j _ hj => by rw [hn] at hj ⊢; exact hF2 j hj)
    rw [h4, Nat.zero_add, Nat.zero_add, hn, show zqA (zP2 W (Y 30)) 0 n = 0 from rfl, Nat.sub_zero, zqAB, ← h1, if_pos (by omega)]
  · obtain ⟨one, ho⟩ := Classical.not_forall.mp hF
    obtain ⟨h1, h2⟩ := Classical.not_imp.mp ho
    have h3 := zcs_no (W := W) h1 h2
    rw [if_neg (by omega)]
    apply zmo_f
    apply Classical.byContradiction
    intro hno
    refine hF (zfea.mpr (fun a ha h4 => hno ⟨a, Nat.zero_le _, by rw [hn]; omega, by rw [hn]; exact h4⟩))
theorem zdg_29 : ∀ n (X : zX) l, zdg n X l 29 = X 29 := by
  intro n
  induction n with
  | zero => intro X l; rfl
  | succ n ih =>
    intro X l
    show zdg n (zu X 30 n (nI (l % 3))) (l / 3) 29 = _
    rw [ih, zu_row_ne _ _ _ (by decide)]
theorem zcb_29 (Y : zX) : ∀ n k, k < n → zcb Y n 29 k = Y 30 k := by
  intro n
  induction n with
  | zero => intro k h; omega
  | succ n ih =>
    intro k h
    show zu (zcb Y n) 29 n (Y 30 n) 29 k = _
    by_cases e : k = n
    · subst e; rw [zu_s]
    · rw [zu_n _ _ _ _ (fun z => e z.2)]; exact ih k (by omega)
/-- one way is good: the roads in turn -/
def zw8 : Nat := 0 * 2187 + 1 * 729 + 2 * 243 + 0 * 81 + 1 * 27 + 2 * 9 + 0 * 3 + 1
theorem zw8_d : ∀ n, n < 9 → ∀ k, k < n → ((zw8 / 3 ^ (8 - n)) / 3 ^ (n - 1 - k)) % 3 = k % 3 := by decide
theorem zw8_l : ∀ n, n < 9 → zw8 / 3 ^ (8 - n) < 3 ^ n := by decide
theorem zw8_f : ∀ one, one < 8 → zct (fun k => decide (nI (k % 3) = nI (one % 3))) one < 4 := by decide
theorem zfold_le {W : List zC3} {n : Nat} {G : Nat → Nat → Int32} : ∀ (L : List Nat) s, (L.foldl (fun s w => zlf W n (G w) s) s).1 ≤ s.1 ∧ ∀ w ∈ L, (L.foldl (fun s w => zlf W n (G w) s) s).1 ≤ zcs W (G w) n := by
  intro L
  induction L with
  | nil => intro s; exact ⟨Nat.le_refl _, fun w h => absurd h List.not_mem_nil⟩
  | cons a L ih =>
    intro s
    obtain ⟨h1, h2⟩ := ih (zlf W n (G a) s)
    have h3 : (zlf W n (G a) s).1 ≤ s.1 ∧ (zlf W n (G a) s).1 ≤ zcs W (G a) n := by
      unfold zlf
      by_cases c : zcs W (G a) n < s.1
      · rw [if_pos c]; exact ⟨Nat.le_of_lt c, Nat.le_refl _⟩
      · rw [if_neg c]; exact ⟨Nat.le_refl _, by omega⟩
    refine ⟨Nat.le_trans h1 h3.1, fun w hw => ?_⟩
    rcases List.mem_cons.mp hw with e | e
    · rw [e]; exact Nat.le_trans h1 h3.2
    · exact h2 w e
/-- what stands at the end was a way's -/
theorem zfold_is {W : List zC3} {n : Nat} {G : Nat → Nat → Int32} : ∀ (L : List Nat) s, L.foldl (fun s w => zlf W n (G w) s) s = s ∨ ∃ w ∈ L, L.foldl (fun s w => zlf W n (G w) s) s = (zcs W (G w) n, G w) := by
  intro L
  induction L with
  | nil => intro s; exact Or.inl rfl
  | cons a L ih =>
    intro s
    rcases ih (zlf W n (G a) s) with h | ⟨w, hw, h⟩
    · show (L.foldl _ (zlf W n (G a) s)) = s ∨ ∃ w ∈ a :: L, L.foldl _ (zlf W n (G a) s) = _
      rw [h]
      unfold zlf
      split
      · exact Or.inr ⟨a, List.mem_cons_self, rfl⟩
      · exact Or.inl rfl
    · exact Or.inr ⟨w, List.mem_cons_of_mem _ hw, h⟩
/-- the model's plans, way by way -/
theorem mPs_eq {X : zX} {W : List zC3} {n : Nat} (hn : mW X = n) (hn8 : n ≤ 8) (ht : ∀ k, k < n → zwt W k = X 28 (mWt X k)) (s0 : Nat × (Nat → Int32)) (h0 : s0.1 = 1000) : ∀ m,
    ((((List.range m).foldl (fun s w => zlf W n (zgw n s0.2 0 w) s) s0).1 = 1000 ∧ (mPs X m).1 = -1) ∨ (((List.range m).foldl (fun s w => zlf W n (zgw n s0.2 0 w) s) s0).1 < 1000 ∧ (mPs X m).1 = nI ((List.range m).foldl (fun s w => zlf W n (zgw n s0.2 0 w) s) s0).1 ∧ ∀ k, k < n → (mPs X m).2 29 k = ((List.range m).foldl (fun s w => zlf W n (zgw n s0.2 0 w) s) s0).2 k)) := by
  intro m
  induction m with
  | zero => left; exact ⟨h0, rfl⟩
  | succ m ih =>
    rw [List.range_succ, List.foldl_append]
    obtain ⟨E, eE⟩ : ∃ E, E = (List.range m).foldl (fun s w => zlf W n (zgw n s0.2 0 w) s) s0 := ⟨_, rfl⟩
    rw [← eE] at ih ⊢
    show ((zlf W n (zgw n s0.2 0 m) E).1 = 1000 ∧ (mPs1 (mPs X m) m).1 = -1) ∨ ((zlf W n (zgw n s0.2 0 m) E).1 < 1000 ∧ (mPs1 (mPs X m) m).1 = nI (zlf W n (zgw n s0.2 0 m) E).1 ∧ ∀ k, k < n → (mPs1 (mPs X m) m).2 29 k = (zlf W n (zgw n s0.2 0 m) E).2 k)
    have hpr := mPs_pr X m
    obtain ⟨Z, eZ⟩ : ∃ Z, Z = zdg (mW (mPs X m).2) (mPs X m).2 m := ⟨_, rfl⟩
    have hpz : zPr X Z := by rw [eZ]; exact hpr.tr (zdg_pr _ _ _)
    have hZn : mW Z = n := hpz.eW.trans hn
    have hsn : mW (mPs X m).2 = n := hpr.eW.trans hn
    have hdig : ∀ k, k < n → Z 30 k = zgw n s0.2 0 m k := fun k hk => by
      rw [eZ, hsn, zdg_d _ _ _ _ hk]; unfold zgw; rw [if_neg (by omega)]
    have hcost : zcs W (Z 30) n = zcs W (zgw n s0.2 0 m) n := zcs_cg n hdig
    have hM : mMo Z = if zcs W (zgw n s0.2 0 m) n < 1000 then nI (zcs W (zgw n s0.2 0 m) n) else -1 := by
      rw [mMo_eq (W := W) hZn hn8 (fun k hk => by
        have e1 : mWt Z k = mWt X k := by unfold mWt; rw [hpz 27 (by decide) (by decide)]
        rw [e1, hpz 28 (by decide) (by decide)]; exact ht k hk), hcost]
    have hs1 : mPs1 (mPs X m) m = if ¬ mMo Z = -1 ∧ ((mPs X m).1 = -1 ∨ ¬ (mPs X m).1 ≤ mMo Z) then (mMo Z, zcb Z (mW Z)) else ((mPs X m).1, Z) := by
      unfold mPs1; rw [← eZ]
    have hZ29 : Z 29 = (mPs X m).2 29 := by rw [eZ]; exact zdg_29 _ _ _
    have hcb : ∀ k, k < n → zcb Z (mW Z) 29 k = zgw n s0.2 0 m k := fun k hk => by rw [zcb_29 _ _ _ (by rw [hZn]; exact hk)]; exact hdig k hk
    obtain ⟨C, eC⟩ : ∃ C, C = zcs W (zgw n s0.2 0 m) n := ⟨_, rfl⟩
    rw [← eC] at hM
    have hzt : C < E.1 → zlf W n (zgw n s0.2 0 m) E = (C, zgw n s0.2 0 m) := fun h => by unfold zlf; rw [← eC]; exact if_pos h
    have hzf : ¬ C < E.1 → zlf W n (zgw n s0.2 0 m) E = E := fun h => by unfold zlf; rw [← eC]; exact if_neg h
    have hst : (¬ mMo Z = -1 ∧ ((mPs X m).1 = -1 ∨ ¬ (mPs X m).1 ≤ mMo Z)) → mPs1 (mPs X m) m = (mMo Z, zcb Z (mW Z)) := fun h => hs1.trans (if_pos h)
    have hsf : ¬ (¬ mMo Z = -1 ∧ ((mPs X m).1 = -1 ∨ ¬ (mPs X m).1 ≤ mMo Z)) → mPs1 (mPs X m) m = ((mPs X m).1, Z) := fun h => hs1.trans (if_neg h)
    by_cases c : C < 1000
    · rw [if_pos c] at hM
      have hne : ¬ mMo Z = -1 := by rw [hM]; exact nI_nem1 (by omega)
      rcases ih with ⟨i1, i2⟩ | ⟨i1, i2, i3⟩
      · rw [hst ⟨hne, Or.inl i2⟩, hzt (by omega)]
        exact Or.inr ⟨c, hM, hcb⟩
      · by_cases d : C < E.1
        · rw [hst ⟨hne, Or.inr (by rw [i2, hM]; exact fun z => absurd ((nI_leI (by omega) (by omega)).mp z) (by omega))⟩, hzt d]
          exact Or.inr ⟨c, hM, hcb⟩
        · rw [hsf (fun z => z.2.elim (fun z => nI_nem1 (by omega) (i2.symm.trans z)) (fun z => z (by rw [i2, hM]; exact nI_le (by omega) (by omega)))), hzf d]
          exact Or.inr ⟨i1, i2, fun k hk => by rw [← i3 k hk]; exact congrFun hZ29 k⟩
    · rw [if_neg c] at hM
      rw [hsf (fun z => z.1 hM)]
      rcases ih with ⟨i1, i2⟩ | ⟨i1, i2, i3⟩
      · rw [hzf (by omega)]; exact Or.inl ⟨i1, i2⟩
      · rw [hzf (by omega)]; exact Or.inr ⟨i1, i2, fun k hk => by rw [← i3 k hk]; exact congrFun hZ29 k⟩
