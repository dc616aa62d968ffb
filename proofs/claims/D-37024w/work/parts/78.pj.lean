/-! the search is the plain trying of all ways -/
def zcs (W : List zC3) (g : Nat → Int32) : Nat → Nat
  | 0 => 0
  | m + 1 => zcs W g m + zsm W g m (g m)
def zlf (W : List zC3) (n : Nat) (g : Nat → Int32) (s : Nat × (Nat → Int32)) : Nat × (Nat → Int32) := if zcs W g n < s.1 then (zcs W g n, g) else s
def zgw (n : Nat) (tf : Nat → Int32) (one w : Nat) : Nat → Int32 := fun k => if k < one then tf k else nI ((w / 3 ^ (n - 1 - k)) % 3)
theorem zcs_cg {W : List zC3} {g h : Nat → Int32} : ∀ m, (∀ k, k < m → g k = h k) → zcs W g m = zcs W h m := by
  intro m
  induction m with
  | zero => intro _; rfl
  | succ m ih =>
    intro e
    show zcs W g m + zsm W g m (g m) = zcs W h m + zsm W h m (h m)
    rw [ih (fun k hk => e k (by omega)), e m (by omega), zsm_cg (h m) (fun k hk => e k (by omega))]
theorem zlf_cg {W : List zC3} {n : Nat} {g h : Nat → Int32} {s s2 : Nat × (Nat → Int32)} (e : ∀ k, k < n → g k = h k) (hs : zsr_ n s s2) : zsr_ n (zlf W n g s) (zlf W n h s2) := by
  unfold zlf
  rw [zcs_cg n e, ← hs.1]
  split
  · exact ⟨rfl, e⟩
  · exact hs
theorem zrange_mul {α : Type} (f : α → Nat → α) (m : Nat) : ∀ a s, (List.range (a * m)).foldl f s = (List.range a).foldl (fun s d => (List.range m).foldl (fun s w => f s (d * m + w)) s) s := by
  intro a
  induction a with
  | zero => intro s; simp
  | succ a ih =>
    intro s
    rw [Nat.succ_mul, List.range_add, List.foldl_append, ih, List.range_succ, List.foldl_append, List.foldl_map]
    rfl
theorem zfold_cg {W : List zC3} {n : Nat} {G H : Nat → Nat → Int32} : ∀ (L : List Nat) s s2, (∀ w ∈ L, ∀ k, k < n → G w k = H w k) → zsr_ n s s2 → zsr_ n (L.foldl (fun s w => zlf W n (G w) s) s) (L.foldl (fun s w => zlf W n (H w) s) s2) := by
  intro L
  induction L with
  | nil => intro s s2 _ h; exact h
  | cons a L ih =>
    intro s s2 e h
    exact ih _ _ (fun w hw => e w (List.mem_cons_of_mem _ hw)) (zlf_cg (e a List.mem_cons_self) h)
theorem zdig {d w r e : Nat} (hd : d < 3) (hw : w < 3 ^ r) : ((d * 3 ^ r + w) / 3 ^ r) % 3 = d ∧ (e < r → ((d * 3 ^ r + w) / 3 ^ e) % 3 = (w / 3 ^ e) % 3) := by
  have hp : 0 < 3 ^ r := Nat.pow_pos (by omega)
  refine ⟨?_, fun he => ?_⟩
  · rw [Nat.mul_comm, Nat.mul_add_div hp, Nat.div_eq_of_lt hw, Nat.add_zero, Nat.mod_eq_of_lt hd]
  · have hp2 : 0 < 3 ^ e := Nat.pow_pos (by omega)
    obtain ⟨q, hq⟩ : ∃ q, 3 ^ r = 3 ^ e * (3 * q) := ⟨3 ^ (r - e - 1), by rw [← Nat.pow_succ', ← Nat.pow_add]; congr 1; omega⟩
    rw [hq, show d * (3 ^ e * (3 * q)) + w = 3 ^ e * (3 * (d * q)) + w by rw [Nat.mul_left_comm, Nat.mul_left_comm d 3 q], Nat.mul_add_div hp2, Nat.mul_add_mod]
theorem zex_all (W : List zC3) {n : Nat} : ∀ r one mv tf s, one + r = n → mv = zcs W tf one → zsr_ n (zex W r one mv tf s) ((List.range (3 ^ r)).foldl (fun s w => zlf W n (zgw n tf one w) s) s) := by
  intro r
  induction r with
  | zero =>
    intro one mv tf s hn hmv
    have h1 : List.range (3 ^ 0) = [0] := rfl
    rw [h1]
    show zsr_ n (if mv < s.1 then (mv, tf) else s) (zlf W n (zgw n tf one 0) s)
    have e : ∀ k, k < n → zgw n tf one 0 k = tf k := fun k hk => by unfold zgw; rw [if_pos (by omega)]
    unfold zlf
    rw [zcs_cg n e, hmv, show one = n by omega]
    split
    · exact ⟨rfl, fun k hk => (by rw [show one = n by omega] at e; exact (e k hk).symm)⟩
    · exact ⟨rfl, fun _ _ => rfl⟩
  | succ r ih =>
    intro one mv tf s hn hmv
    rw [Nat.pow_succ, Nat.mul_comm (3 ^ r) 3, zrange_mul]
    show zsr_ n ((List.range 3).foldl (fun s d => zex W r (one + 1) (mv + zsm W tf one (nI d)) (va_up tf one (nI d)) s) s) _
    have key : ∀ m, m ≤ 3 → zsr_ n ((List.range m).foldl (fun s d => zex W r (one + 1) (mv + zsm W tf one (nI d)) (va_up tf one (nI d)) s) s) ((List.range m).foldl (fun s d => (List.range (3 ^ r)).foldl (fun s w => zlf W n (zgw n tf one (d * 3 ^ r + w)) s) s) s) := by
      intro m
      induction m with
      | zero => intro _; exact ⟨rfl, fun _ _ => rfl⟩
      | succ m ihm =>
        intro hm
        rw [List.range_succ, List.foldl_append, List.foldl_append]
        show zsr_ n (zex W r (one + 1) (mv + zsm W tf one (nI m)) (va_up tf one (nI m)) _) ((List.range (3 ^ r)).foldl (fun s w => zlf W n (zgw n tf one (m * 3 ^ r + w)) s) _)
        have hup : ∀ k, k < one → va_up tf one (nI m) k = tf k := fun k hk => va_up_ne _ _ (by omega)
        have hc : mv + zsm W tf one (nI m) = zcs W (va_up tf one (nI m)) (one + 1) := by
          show _ = zcs W (va_up tf one (nI m)) one + zsm W (va_up tf one (nI m)) one (va_up tf one (nI m) one)
          rw [zcs_cg one hup, va_up_self, zsm_cg (nI m) hup, hmv]
        have h1 := ih (one + 1) (mv + zsm W tf one (nI m)) (va_up tf one (nI m)) ((List.range m).foldl (fun s d => zex W r (one + 1) (mv + zsm W tf one (nI d)) (va_up tf one (nI d)) s) s) (by clear ihm ih; omega) hc
        have h2 := zfold_cg (W := W) (n := n) (G := zgw n (va_up tf one (nI m)) (one + 1)) (H := fun w => zgw n tf one (m * 3 ^ r + w)) (List.range (3 ^ r)) _ _ (fun w hw k hk => by
          have hw := List.mem_range.mp hw
          unfold zgw
          by_cases c : k < one
          · rw [if_pos (by omega), if_pos c]; exact hup k c
          · rw [if_neg c]
            by_cases c2 : k = one
            · subst c2
              rw [if_pos (by omega), va_up_self, show n - 1 - k = r by omega, (zdig (e := 0) (by omega : m < 3) hw).1]
            · rw [if_neg (by omega), (zdig (by omega : m < 3) hw).2 (by omega)]) (ihm (by omega))
        exact ⟨h1.1.trans h2.1, fun k hk => (h1.2 k hk).trans (h2.2 k hk)⟩
    exact key 3 (Nat.le_refl _)
/-- the model's digits -/
theorem zdg_hi : ∀ n (X : zX) l j, n ≤ j → zdg n X l 30 j = X 30 j := by
  intro n
  induction n with
  | zero => intro X l j _; rfl
  | succ n ih =>
    intro X l j h
    show zdg n (zu X 30 n (nI (l % 3))) (l / 3) 30 j = _
    rw [ih _ _ _ (by omega), zu_n _ _ _ _ (by omega)]
theorem zdg_d : ∀ n (X : zX) l k, k < n → zdg n X l 30 k = nI ((l / 3 ^ (n - 1 - k)) % 3) := by
  intro n
  induction n with
  | zero => intro X l k h; omega
  | succ n ih =>
    intro X l k h
    show zdg n (zu X 30 n (nI (l % 3))) (l / 3) 30 k = _
    by_cases c : k = n
    · subst c
      rw [zdg_hi _ _ _ _ (Nat.le_refl _), zu_s, show k + 1 - 1 - k = 0 by omega, Nat.pow_zero, Nat.div_one]
    · rw [ih _ _ _ (by omega), Nat.div_div_eq_div_mul, ← Nat.pow_succ', show (n - 1 - k).succ = n + 1 - 1 - k by omega]
