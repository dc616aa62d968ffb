/-! turn: the two rounds are the model's -/
theorem zu_cm (X : zX) {k i k2 i2 : Nat} {v v2 : Int32} (h : ¬ (k = k2 ∧ i = i2)) : zu (zu X k i v) k2 i2 v2 = zu (zu X k2 i2 v2) k i v := by
  funext a b
  simp only [zu]
  by_cases h1 : a = k ∧ b = i
  · have h2 : ¬ (a = k2 ∧ b = i2) := fun z => h ⟨h1.1.symm.trans z.1, h1.2.symm.trans z.2⟩
    rw [if_neg h2, if_pos h1, if_pos h1]
  · rw [if_neg h1, if_neg h1]
theorem zt1_fil {X : zX} : ∀ (L : List Nat) (s : Int32 × zX), s.2 2 = X 2 → L.foldl zt1 s = (L.filter (fun q => decide (X 2 q = 3))).foldl zt1 s := by
  intro L
  induction L with
  | nil => intro s _; rfl
  | cons a L ih =>
    intro s h
    have h2 : (zt1 s a).2 2 = X 2 := by
      unfold zt1
      split
      · rw [m_trues_keep _ _ (by decide) (by decide), h]
      · exact h
    show L.foldl zt1 (zt1 s a) = _
    rw [ih _ h2]
    by_cases c : X 2 a = 3
    · rw [List.filter_cons_of_pos (by simp [c])]; rfl
    · rw [List.filter_cons_of_neg (by simp [c])]
      have : zt1 s a = s := by unfold zt1; rw [h, if_neg c]
      rw [this]
theorem zt2_fil {X : zX} {l : Int32} : ∀ (L : List Nat) (s : Int32 × zX), s.2 2 = X 2 → L.foldl (zt2 l) s = (L.filter (fun q => decide (X 2 q = 3))).foldl (zt2 l) s := by
  intro L
  induction L with
  | nil => intro s _; rfl
  | cons a L ih =>
    intro s h
    have h2 : (zt2 l s a).2 2 = X 2 := (zt2_keep (l := l) (r := 2) (by decide) [a] s).trans h
    show L.foldl (zt2 l) (zt2 l s a) = _
    rw [ih _ h2]
    by_cases c : X 2 a = 3
    · rw [List.filter_cons_of_pos (by simp [c])]; rfl
    · rw [List.filter_cons_of_neg (by simp [c])]
      have : zt2 l s a = s := by unfold zt2; rw [h, if_neg c]
      rw [this]
theorem zdS_fil {X Y : zX} (h2 : Y 2 = X 2) (f : Nat → Int32) : ∀ (L : List Nat) (acc : Int32), (∀ q ∈ L, X 2 q = 3 ∨ X 2 q = 4) → L.foldl (zdS Y false f) acc = (L.filter (fun q => decide (X 2 q = 3))).foldl (fun acc q => if f q < acc then f q else acc) acc := by
  intro L
  induction L with
  | nil => intro acc _; rfl
  | cons a L ih =>
    intro acc h
    show L.foldl (zdS Y false f) (zdS Y false f acc a) = _
    rw [ih _ (fun q hq => h q (List.mem_cons_of_mem _ hq))]
    rcases h a List.mem_cons_self with c | c
    · rw [List.filter_cons_of_pos (by simp [c]), zdS_f (by rw [h2, c]; decide) rfl]; rfl
    · rw [List.filter_cons_of_neg (by simp [c]), zdS_m (by rw [h2, c])]
theorem zmx (d : Int32) : (if d < 2147483647 then d else 2147483647) = d := by
  by_cases c : d < 2147483647
  · rw [if_pos c]
  · rw [if_neg c]
    refine Int32.le_antisymm (Int32.not_lt.mp c) ?_
    refine Int32.le_iff_toInt_le.mpr ?_
    have h1 := d.toInt_lt
    rw [show (2147483647 : Int32).toInt = 2147483647 from by decide]
    omega
theorem zwo_hi {X : zX} {i : Int32} {p : Nat} (h5 : X 5 p = i) (h2 : X 2 p = 3) : ∀ j, p < j → (∀ q, p < q → q < j → ¬ (X 5 q = i ∧ X 2 q = 3)) → zwo X i true j = nI p := by
  intro j
  induction j with
  | zero => intro h; omega
  | succ j ih =>
    intro h hq
    show (if X 5 j = i ∧ X 2 j = 3 ∧ (true = true ∨ zwo X i true j = -1) then nI j else zwo X i true j) = _
    by_cases e : p = j
    · subst e; rw [if_pos ⟨h5, h2, Or.inl rfl⟩]
    · rw [if_neg (fun z => hq j (by omega) (by omega) ⟨z.1, z.2.1⟩)]
      exact ih (by omega) (fun q h1 h3 => hq q h1 (by omega))
theorem zwo_no {X : zX} {i : Int32} : ∀ j, (∀ q, q < j → ¬ (X 5 q = i ∧ X 2 q = 3)) → zwo X i false j = -1 := by
  intro j
  induction j with
  | zero => intro _; rfl
  | succ j ih =>
    intro hq
    show (if X 5 j = i ∧ X 2 j = 3 ∧ (false = true ∨ zwo X i false j = -1) then nI j else zwo X i false j) = _
    rw [if_neg (fun z => hq j (by omega) ⟨z.1, z.2.1⟩)]
    exact ih (fun q h => hq q (by omega))
theorem zwo_lo {X : zX} {i : Int32} {p : Nat} (hp60 : p < 60) (h5 : X 5 p = i) (h2 : X 2 p = 3) : ∀ j, p < j → (∀ q, q < p → ¬ (X 5 q = i ∧ X 2 q = 3)) → zwo X i false j = nI p := by
  intro j
  induction j with
  | zero => intro h; omega
  | succ j ih =>
    intro h hq
    show (if X 5 j = i ∧ X 2 j = 3 ∧ (false = true ∨ zwo X i false j = -1) then nI j else zwo X i false j) = _
    by_cases e : p = j
    · subst e; rw [if_pos ⟨h5, h2, Or.inr (zwo_no p hq)⟩]
    · rw [ih (by omega) hq, if_neg (fun z => z.2.2.elim (fun z => by cases z) (fun z => nI_nm1 hp60 z))]
/-- both at once: u and v in either order -/
def zY2 (X : zX) (u v : Nat) : zX := (m_trues (m_trues X u).2 v).2
theorem zY2_13 (X : zX) {u v : Nat} (h : u ≠ v) : zY2 X u v 13 u = X 13 u - 2 * (300 - X 14 u) ∧ zY2 X u v 13 v = X 13 v - 2 * (300 - X 14 v) := by
  unfold zY2 m_trues
  refine ⟨by simp [zu, h], ?_⟩
  have h2 : ¬ v = u := fun z => h z.symm
  simp [zu, h2]
theorem m_tr2 (X : zX) {u v : Nat} (h : u ≠ v) : (m_trues (m_trues X u).2 v).1 = 2 * (300 - X 14 v) := by
  have h2 : ¬ v = u := fun z => h z.symm
  unfold m_trues
  simp [zu, h2]
theorem zY2_eq (X : zX) {u v : Nat} (h : u ≠ v) : zY2 X u v = zu (zu (zu (zu X 13 u (X 13 u - 2 * (300 - X 14 u))) 14 u 300) 13 v (X 13 v - 2 * (300 - X 14 v))) 14 v 300 := by
  have h2 : ¬ v = u := fun z => h z.symm
  unfold zY2 m_trues
  dsimp only
  have e1 : zu (zu X 13 u (X 13 u - 2 * (300 - X 14 u))) 14 u 300 13 v = X 13 v := by simp [zu, h2]
  have e2 : zu (zu X 13 u (X 13 u - 2 * (300 - X 14 u))) 14 u 300 14 v = X 14 v := by simp [zu, h2]
  rw [e1, e2]
theorem zY2_cm (X : zX) {u v : Nat} (h : u ≠ v) : zY2 X u v = zY2 X v u := by
  have h2 : v ≠ u := fun z => h z.symm
  rw [zY2_eq X h, zY2_eq X h2]
  rw [zu_cm (zu X 13 u _) (k := 14) (i := u) (k2 := 13) (i2 := v) (by omega), zu_cm X (k := 13) (i := u) (k2 := 13) (i2 := v) (by omega), zu_cm (zu (zu X 13 v _) 13 u _) (k := 14) (i := u) (k2 := 14) (i2 := v) (by omega), zu_cm (zu X 13 v _) (k := 13) (i := u) (k2 := 14) (i2 := v) (by omega)]
theorem zsum4 (a b x y l : Int32) : 0 + a + b + (x - l) + (y - l) = a + b + (x - l + y - l) := by
  simp only [Int32.sub_eq_add_neg, Int32.zero_add]
  simp only [Int32.add_assoc]
theorem zsum4' (a b x y l : Int32) : 0 + b + a + (y - l) + (x - l) = a + b + (x - l + y - l) := by
  have lc : ∀ a b c : Int32, a + (b + c) = b + (a + c) := fun a b c => by rw [← Int32.add_assoc, Int32.add_comm a b, Int32.add_assoc]
  simp only [Int32.sub_eq_add_neg, Int32.zero_add]
  simp only [Int32.add_assoc, Int32.add_comm, lc]
theorem ztn_eq {S : zS} {X : zX} (h : zBt S X) {i : Nat} (hi : i < mN X) (h2 : X 2 i = 2) {u v : Nat} (hf : (S.K i).filter (fun q => decide (X 2 q = 3)) = [u, v]) (huv : u ≠ v) :
    ∃ l, l = (if zY2 X u v 13 v < zY2 X u v 13 u then zY2 X u v 13 v else zY2 X u v 13 u) ∧ ztn S X i = (0 + 2 * (300 - X 14 u) + 2 * (300 - X 14 v) + (zY2 X u v 13 u - l) + (zY2 X u v 13 v - l), zu (zu (zY2 X u v) 13 u l) 13 v l) := by
  have hu : u ∈ S.K i ∧ X 2 u = 3 := by
    have : u ∈ (S.K i).filter (fun q => decide (X 2 q = 3)) := by rw [hf]; exact List.mem_cons_self
    have := List.mem_filter.mp this
    exact ⟨this.1, of_decide_eq_true this.2⟩
  have hv : v ∈ S.K i ∧ X 2 v = 3 := by
    have : v ∈ (S.K i).filter (fun q => decide (X 2 q = 3)) := by rw [hf]; exact List.mem_cons_of_mem _ List.mem_cons_self
    have := List.mem_filter.mp this
    exact ⟨this.1, of_decide_eq_true this.2⟩
  have e1 : (S.K i).foldl zt1 (0, X) = (0 + 2 * (300 - X 14 u) + 2 * (300 - X 14 v), zY2 X u v) := by
    rw [zt1_fil (X := X) _ _ rfl, hf]
    show zt1 (zt1 (0, X) u) v = _
    have a1 : zt1 (0, X) u = (0 + (m_trues X u).1, (m_trues X u).2) := by unfold zt1; exact if_pos hu.2
    have a2 : (m_trues X u).2 2 v = 3 := by rw [m_trues_keep _ _ (by decide) (by decide)]; exact hv.2
    rw [a1]
    have a3 : zt1 (0 + (m_trues X u).1, (m_trues X u).2) v = (0 + (m_trues X u).1 + (m_trues (m_trues X u).2 v).1, (m_trues (m_trues X u).2 v).2) := by unfold zt1; exact if_pos a2
    rw [a3, m_tr2 X huv]; rfl
  have hY2 : zY2 X u v 2 = X 2 := by unfold zY2; rw [m_trues_keep _ _ (by decide) (by decide), m_trues_keep _ _ (by decide) (by decide)]
  have hleaf : ∀ q, q ∈ S.K i → X 2 q = 3 → zdi S (zY2 X u v) false 4 q = zY2 X u v 13 q := fun q hq h3 => by
    show (S.K q).foldl _ (if zY2 X u v 2 q = 3 then zY2 X u v 13 q else if false = true then 0 else 2147483647) = _
    have hk : mK X q = 3 := by unfold mK; rw [h3]; decide
    rw [h.leaf (h.hst hi hq).1 (by omega), hY2, if_pos h3]; rfl
  have e2 : zdi S (zY2 X u v) false 5 i = (if zY2 X u v 13 v < zY2 X u v 13 u then zY2 X u v 13 v else zY2 X u v 13 u) := by
    show (S.K i).foldl (zdS (zY2 X u v) false (zdi S (zY2 X u v) false 4)) (if zY2 X u v 2 i = 3 then zY2 X u v 13 i else if false = true then 0 else 2147483647) = _
    rw [hY2, if_neg (by rw [h2]; decide), zdS_fil hY2 _ _ _ (fun q hq => by
      have hk2 : mK X i = 2 := by unfold mK; rw [h2]; decide
      have e := (h.1.2.1 q (h.hst hi hq).1).1
      rcases h.kid hi hq with ⟨z, -⟩ | ⟨z, -⟩ | ⟨-, z⟩ | ⟨-, z⟩
      · omega
      · omega
      · left; rw [e, z]; rfl
      · right; rw [e, z]; rfl), hf]
    show (if zdi S (zY2 X u v) false 4 v < (if zdi S (zY2 X u v) false 4 u < (if false = true then 0 else 2147483647) then zdi S (zY2 X u v) false 4 u else (if false = true then 0 else 2147483647)) then zdi S (zY2 X u v) false 4 v else (if zdi S (zY2 X u v) false 4 u < (if false = true then 0 else 2147483647) then zdi S (zY2 X u v) false 4 u else (if false = true then 0 else 2147483647))) = _
    rw [hleaf u hu.1 hu.2, hleaf v hv.1 hv.2, show (if false = true then (0 : Int32) else 2147483647) = 2147483647 from rfl, zmx]
  refine ⟨_, rfl, ?_⟩
  unfold ztn
  rw [e1]
  dsimp only
  rw [e2]
  obtain ⟨l, el⟩ : ∃ l, l = (if zY2 X u v 13 v < zY2 X u v 13 u then zY2 X u v 13 v else zY2 X u v 13 u) := ⟨_, rfl⟩
  rw [← el]
  rw [zt2_fil (X := X) (S.K i) (0 + 2 * (300 - X 14 u) + 2 * (300 - X 14 v), zY2 X u v) hY2, hf]
  show zt2 l (zt2 l (_, zY2 X u v) u) v = _
  have b1 : zt2 l (0 + 2 * (300 - X 14 u) + 2 * (300 - X 14 v), zY2 X u v) u = (0 + 2 * (300 - X 14 u) + 2 * (300 - X 14 v) + (zY2 X u v 13 u - l), zu (zY2 X u v) 13 u l) := by unfold zt2; exact if_pos (show zY2 X u v 2 u = 3 by rw [hY2]; exact hu.2)
  rw [b1]
  have b2 : zu (zY2 X u v) 13 u l 2 v = 3 := by rw [zu_row_ne _ _ _ (by decide), hY2]; exact hv.2
  have b3 : zt2 l (0 + 2 * (300 - X 14 u) + 2 * (300 - X 14 v) + (zY2 X u v 13 u - l), zu (zY2 X u v) 13 u l) v = (0 + 2 * (300 - X 14 u) + 2 * (300 - X 14 v) + (zY2 X u v 13 u - l) + (zu (zY2 X u v) 13 u l 13 v - l), zu (zu (zY2 X u v) 13 u l) 13 v l) := by unfold zt2; exact if_pos b2
  rw [b3, zu_n _ _ _ _ (fun z => huv z.2.symm)]
theorem zfil2 {S : zS} {X : zX} (h : zBt S X) {i : Nat} (hi : i < mN X) (hc : (S.K i).countP (fun q => decide (X 2 q = 3)) = 2) : ∃ u v, (S.K i).filter (fun q => decide (X 2 q = 3)) = [u, v] ∧ u ≠ v ∧ (u < mN X ∧ X 5 u = nI i ∧ X 2 u = 3) ∧ (v < mN X ∧ X 5 v = nI i ∧ X 2 v = 3) ∧ ∀ q, q < mN X → X 5 q = nI i → X 2 q = 3 → q = u ∨ q = v := by
  have hl : ((S.K i).filter (fun q => decide (X 2 q = 3))).length = 2 := by rw [← List.countP_eq_length_filter]; exact hc
  have hnd : ((S.K i).filter (fun q => decide (X 2 q = 3))).Nodup := List.Nodup.sublist List.filter_sublist (h.2.2.1 i hi).1
  have hm : ∀ q, q ∈ (S.K i).filter (fun q => decide (X 2 q = 3)) ↔ (q < mN X ∧ X 5 q = nI i ∧ X 2 q = 3) := fun q => by
    rw [List.mem_filter, (h.2.2.1 i hi).2 q, decide_eq_true_eq, and_assoc]
  match hL : (S.K i).filter (fun q => decide (X 2 q = 3)), hl, hnd, hm with
  | [u, v], _, hnd, hm =>
    refine ⟨u, v, rfl, ?_, (hm u).mp (by simp), (hm v).mp (by simp), fun q h1 h2 h3 => ?_⟩
    · have := List.nodup_cons.mp hnd
      intro z; exact this.1 (by rw [z]; exact List.mem_cons_self)
    · have := (hm q).mpr ⟨h1, h2, h3⟩
      simpa using this
theorem zturn {S : zS} {X : zX} (h : zBt S X) : ∀ i, i < mN X → X 2 i = 2 → (S.K i).countP (fun q => decide (X 2 q = 3)) = 2 → (ztn S X i).1 = (mTu (zu X 0 0 0) (mWo X (nI i) false).toNatClampNeg (mWo X (nI i) true).toNatClampNeg).1 ∧ ∀ k, k ≠ 0 → k < 23 → (mTu (zu X 0 0 0) (mWo X (nI i) false).toNatClampNeg (mWo X (nI i) true).toNatClampNeg).2 k = (ztn S X i).2 k := by
  intro i hi h2 hc
  have hn := h.1.1.2
  obtain ⟨u, v, hf, huv, ⟨hu1, hu2, hu3⟩, ⟨hv1, hv2, hv3⟩, hall⟩ := zfil2 h hi hc
  obtain ⟨l, hl, hz⟩ := ztn_eq h hi h2 hf huv
  rw [hz]
  -- the model's, at a and b
  have key : ∀ a b, a ≠ b → (mTu (zu X 0 0 0) a b).1 = 2 * (300 - X 14 a) + 2 * (300 - X 14 b) + (zY2 X a b 13 a - (if zY2 X a b 13 b ≤ zY2 X a b 13 a then zY2 X a b 13 b else zY2 X a b 13 a) + zY2 X a b 13 b - (if zY2 X a b 13 b ≤ zY2 X a b 13 a then zY2 X a b 13 b else zY2 X a b 13 a)) ∧ ∀ k, k ≠ 0 → (mTu (zu X 0 0 0) a b).2 k = zu (zu (zY2 X a b) 13 a (if zY2 X a b 13 b ≤ zY2 X a b 13 a then zY2 X a b 13 b else zY2 X a b 13 a)) 13 b (if zY2 X a b 13 b ≤ zY2 X a b 13 a then zY2 X a b 13 b else zY2 X a b 13 a) k := by
    intro a b hab
    have e14 : ∀ q, zu X 0 0 0 14 q = X 14 q := fun q => congrFun (zu_row_ne X 0 0 (by decide)) q
    have eY : ∀ k, k ≠ 0 → zY2 (zu X 0 0 0) a b k = zY2 X a b k := fun k hk => by
      rw [zY2_eq _ hab, zY2_eq _ hab, e14, e14, congrFun (zu_row_ne X 0 0 (show (13 : Nat) ≠ 0 by decide)) a, congrFun (zu_row_ne X 0 0 (show (13 : Nat) ≠ 0 by decide)) b]
      have r : ∀ (P Q : zX) j q w, P k = Q k → zu P j q w k = zu Q j q w k := fun P Q j q w e => by
        by_cases z : k = j
        · subst z; rw [zu_row, zu_row, e]
        · rw [zu_row_ne _ _ _ z, zu_row_ne _ _ _ z, e]
      exact r _ _ _ _ _ (r _ _ _ _ _ (r _ _ _ _ _ (r _ _ _ _ _ (zu_row_ne X 0 0 hk))))
    have eT : mTu1 (zu X 0 0 0) a b = zY2 (zu X 0 0 0) a b := rfl
    have eL : mTuL (zu X 0 0 0) a b = (if zY2 X a b 13 b ≤ zY2 X a b 13 a then zY2 X a b 13 b else zY2 X a b 13 a) := by unfold mTuL; rw [eT, eY 13 (by decide)]
    refine ⟨?_, fun k hk => ?_⟩
    · show (m_trues (zu X 0 0 0) a).1 + (m_trues (m_trues (zu X 0 0 0) a).2 b).1 + (mTu1 (zu X 0 0 0) a b 13 a - mTuL (zu X 0 0 0) a b + mTu1 (zu X 0 0 0) a b 13 b - mTuL (zu X 0 0 0) a b) = _
      rw [m_tr2 _ hab, eL, eT, eY 13 (by decide), e14]
      show 2 * (300 - zu X 0 0 0 14 a) + _ + _ = _
      rw [e14]
    · show zu (zu (mTu1 (zu X 0 0 0) a b) 13 a (mTuL (zu X 0 0 0) a b)) 13 b (mTuL (zu X 0 0 0) a b) k = _
      rw [eL, eT]
      by_cases z : k = 13
      · subst z; rw [zu_row, zu_row, zu_row, zu_row, eY 13 hk]
      · rw [zu_row_ne _ _ _ z, zu_row_ne _ _ _ z, zu_row_ne _ _ _ z, zu_row_ne _ _ _ z, eY k hk]
  have lmin : ∀ x y : Int32, (if y < x then y else x) = (if y ≤ x then y else x) := fun x y => by
    by_cases c : y < x
    · rw [if_pos c, if_pos (Int32.le_of_lt c)]
    · rw [if_neg c]
      by_cases d : y ≤ x
      · rw [if_pos d]; exact (Int32.le_antisymm d (Int32.not_lt.mp c)).symm
      · rw [if_neg d]
  have lsym : ∀ x y : Int32, (if y ≤ x then y else x) = (if x ≤ y then x else y) := fun x y => by
    by_cases c : y ≤ x
    · rw [if_pos c]
      by_cases d : x ≤ y
      · rw [if_pos d]; exact Int32.le_antisymm c d
      · rw [if_neg d]
    · rw [if_neg c, if_pos (Int32.le_of_lt (Int32.not_le.mp c))]
  rw [lmin] at hl
  by_cases c : u < v
  · have ea : (mWo X (nI i) false).toNatClampNeg = u := by
      unfold mWo
      rw [zwo_lo (by omega) hu2 hu3 (mN X) hu1 (fun q hq z => by rcases hall q (by omega) z.1 z.2 with e | e <;> omega)]
      exact nI_clamp (by omega)
    have eb : (mWo X (nI i) true).toNatClampNeg = v := by
      unfold mWo
      rw [zwo_hi hv2 hv3 (mN X) hv1 (fun q h1 hq z => by rcases hall q (by omega) z.1 z.2 with e | e <;> omega)]
      exact nI_clamp (by omega)
    rw [ea, eb]
    obtain ⟨k1, k2⟩ := key u v huv
    rw [k1, ← hl]
    exact ⟨zsum4 _ _ _ _ _, fun k h0 _ => by rw [k2 k h0, ← hl]⟩
  · have ea : (mWo X (nI i) false).toNatClampNeg = v := by
      unfold mWo
      rw [zwo_lo (by omega) hv2 hv3 (mN X) hv1 (fun q hq z => by rcases hall q (by omega) z.1 z.2 with e | e <;> omega)]
      exact nI_clamp (by omega)
    have eb : (mWo X (nI i) true).toNatClampNeg = u := by
      unfold mWo
      rw [zwo_hi hu2 hu3 (mN X) hu1 (fun q h1 hq z => by rcases hall q (by omega) z.1 z.2 with e | e <;> omega)]
      exact nI_clamp (by omega)
    rw [ea, eb]
    obtain ⟨k1, k2⟩ := key v u huv.symm
    have eYY := zY2_cm X huv
    rw [← eYY] at k1 k2
    rw [lsym] at hl
    rw [k1, ← hl]
    refine ⟨zsum4' _ _ _ _ _, fun k h0 _ => ?_⟩
    rw [k2 k h0, ← hl, zu_cm (zY2 X u v) (k := 13) (i := v) (k2 := 13) (i2 := u) (by omega)]
