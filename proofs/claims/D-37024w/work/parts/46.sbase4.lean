/-! THE TREE AS A LIST -/
theorem zu_comm (X : zX) {k i k2 i2 : Nat} {v v2 : Int32} (h : k ≠ k2) : zu (zu X k i v) k2 i2 v2 = zu (zu X k2 i2 v2) k i v := by
  funext a b
  simp only [zu]
  by_cases h1 : a = k ∧ b = i
  · have h2 : ¬ (a = k2 ∧ b = i2) := fun z => h (h1.1.symm.trans z.1)
    simp only [h1, h2, if_true, if_false, and_self]
    try simp
    try (intro z; exact absurd z h)
  · simp only [h1, if_false]
def zDn (S : zS) : Nat → Nat → List Nat
  | 0, _ => []
  | n + 1, i => i :: (S.K i).flatMap (zDn S n)
theorem zfo_flat {f : zX → Nat → zX} {F : Nat → List Nat} : ∀ (L : List Nat) (X : zX), (L.flatMap F).foldl f X = L.foldl (fun Y q => (F q).foldl f Y) X := by
  intro L
  induction L with
  | nil => intro X; rfl
  | cons q L ih => intro X; rw [List.flatMap_cons, List.foldl_append, ih]; rfl
theorem zgo_eq (S : zS) (km se : Int32) : ∀ (n i : Nat) (X : zX), zgo S km se n i X = (zDn S n i).foldl (fun Y q => m_goes Y q km se) X := by
  intro n
  induction n with
  | zero => intro i X; rfl
  | succ n ih =>
    intro i X
    show (S.K i).foldl (fun Y q => zgo S km se n q Y) (m_goes X i km se) = ((S.K i).flatMap (zDn S n)).foldl (fun Y q => m_goes Y q km se) (m_goes X i km se)
    rw [zfo_flat]
    congr 1
    funext Y q
    exact ih q Y
theorem zqa_eq (S : zS) : ∀ (n i : Nat) (X : zX), zqa S n i X = (zDn S n i).foldl m_holds X := by
  intro n
  induction n with
  | zero => intro i X; rfl
  | succ n ih =>
    intro i X
    show (S.K i).foldl (fun Y q => zqa S n q Y) (m_holds X i) = ((S.K i).flatMap (zDn S n)).foldl m_holds (m_holds X i)
    rw [zfo_flat]
    congr 1
    funext Y q
    exact ih q Y
theorem m_goes_out (X : zX) {p q : Nat} (km se : Int32) (h : p ≠ q) (r : Nat) : m_goes X q km se r p = X r p := by
  have e : ∀ (Z : zX) k v, zu Z k q v r p = Z r p := fun Z k v => zu_n _ _ _ _ (fun z => h z.2)
  unfold m_goes
  rw [e]
  unfold mGo2
  split
  · rw [e, e, e]; unfold mGo1; rw [e, e]
  · unfold mGo1; rw [e, e]
theorem zfg_out (km se : Int32) {p : Nat} (r : Nat) : ∀ (L : List Nat) (X : zX), p ∉ L → L.foldl (fun Y q => m_goes Y q km se) X r p = X r p := by
  intro L
  induction L with
  | nil => intro X _; rfl
  | cons q L ih =>
    intro X h
    have h2 : p ≠ q ∧ p ∉ L := ⟨fun z => h (by rw [z]; exact List.mem_cons_self ..), fun z => h (List.mem_cons_of_mem _ z)⟩
    exact (ih _ h2.2).trans (m_goes_out X km se h2.1 r)
/-- a flaw that grows stays a flaw -/
def zfl (X : zX) (km : Int32) (p : Nat) : Prop := X 18 p = 0 ∨ ∀ j, j ≤ (mSt X p km).toNatClampNeg → ¬ zgr (X 18 p) j ≤ 0
theorem zfl.cg {X Y : zX} {km : Int32} {p : Nat} (h : zfl X km p) (e : ∀ r, Y r p = X r p) : zfl Y km p := by
  unfold zfl mSt at h ⊢
  rw [e 18, e 6, e 19]
  exact h
theorem zgo_kid {S : zS} {km se : Int32} {n i k q : Nat} {X : zX} (hnd : (zDn S (n + 1) i).Nodup) (hfl : ∀ p ∈ zDn S (n + 1) i, zfl X km p) (hq : (S.K i)[k]? = some q) : (zDn S n q).Nodup ∧ ∀ p ∈ zDn S n q, zfl (((S.K i).take k).foldl (fun Y q => zgo S km se n q Y) (m_goes X i km se)) km p := by
  obtain ⟨hk, e⟩ := List.getElem?_eq_some_iff.mp hq
  have hs : S.K i = (S.K i).take k ++ q :: (S.K i).drop (k + 1) := by
    rw [← e, List.getElem_cons_drop, List.take_append_drop]
  have hd : zDn S (n + 1) i = i :: (((S.K i).take k).flatMap (zDn S n) ++ (zDn S n q ++ ((S.K i).drop (k + 1)).flatMap (zDn S n))) := by
    show i :: (S.K i).flatMap (zDn S n) = _
    conv => lhs; rw [hs]
    rw [List.flatMap_append, List.flatMap_cons]
  rw [hd] at hnd hfl
  obtain ⟨h1, h2⟩ := List.nodup_cons.mp hnd
  obtain ⟨-, h3, h4⟩ := List.nodup_append.mp h2
  obtain ⟨h5, -, -⟩ := List.nodup_append.mp h3
  refine ⟨h5, fun p hp => (hfl p (by simp [hp])).cg (fun r => ?_)⟩
  have e2 : ((S.K i).take k).foldl (fun Y q => zgo S km se n q Y) (m_goes X i km se) = (((S.K i).take k).flatMap (zDn S n)).foldl (fun Y q => m_goes Y q km se) (m_goes X i km se) := by
    rw [zfo_flat]; congr 1; funext Y q; exact zgo_eq S km se n q Y
  rw [e2, zfg_out km se r _ _ (fun z => h4 p z p (by simp [hp]) rfl), m_goes_out X km se (fun z => h1 (by rw [← z]; simp [hp])) r]
