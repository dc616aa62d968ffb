/-! the search and the plans: one answer -/
theorem zgw0 (n : Nat) (a b : Nat → Int32) (w : Nat) : zgw n a 0 w = zgw n b 0 w := by
  funext k; unfold zgw; rw [if_neg (Nat.not_lt_zero _), if_neg (Nat.not_lt_zero _)]
theorem zsearch {S : zS} {X : zX} (hn : S.Wt.length = mW X) (h8 : S.Wt.length ≤ 8) (ht : ∀ k, k < S.Wt.length → zwt S.Wt k = X 28 (mWt X k)) (b : Bool) :
    (zsr S b).1 = (m_plans (zu X 0 0 0)).1 ∧ (∀ k, k < S.Wt.length → (zsr S b).2.2 k = (m_plans (zu X 0 0 0)).2 29 k) ∧ (∀ k, k < S.Wt.length → ∃ r, r < 3 ∧ (m_plans (zu X 0 0 0)).2 29 k = nI r) ∧ ∀ r, r < 3 → zct (fun k => decide (((m_plans (zu X 0 0 0)).2 29 k).toNatClampNeg = r)) S.Wt.length ≤ 4 := by
  obtain ⟨n, en⟩ : ∃ n, n = S.Wt.length := ⟨_, rfl⟩
  have hW0 : mW (zu X 0 0 0) = n := by rw [mW_w _ _ _ _ (by decide), ← hn, en]
  have ht0 : ∀ k, k < n → zwt S.Wt k = (zu X 0 0 0) 28 (mWt (zu X 0 0 0) k) := fun k hk => by
    rw [mWt_w _ _ _ _ (by decide), congrFun (zu_row_ne X 0 0 (show (28 : Nat) ≠ 0 by decide)) _]
    exact ht k (by rw [← en]; exact hk)
  obtain ⟨few, tf, bf, h1, h2, h3, h4⟩ := zgv_ex S.Wt b h8 9 0 0 1000 S.tf S.bf (1000, S.bf) (by omega) (by omega) (by omega) (by omega) ⟨rfl, fun _ _ => rfl⟩
  have hz : zsr S b = (nI few, tf, bf) := h1
  have h5 := zex_all S.Wt (n := n) n 0 0 S.tf (1000, S.bf) (by omega) rfl
  rw [Nat.sub_zero, ← en] at h4
  have h6 := mPs_eq (W := S.Wt) hW0 (by omega) ht0 (1000, S.bf) rfl (3 ^ n)
  have hp : m_plans (zu X 0 0 0) = mPs (zu X 0 0 0) (3 ^ n) := by unfold m_plans; rw [hW0]
  rw [← hp] at h6
  have eG : (fun w => zgw n S.tf 0 w) = fun w => zgw n (1000, S.bf).2 0 w := by funext w; exact zgw0 n _ _ w
  have eF : (List.range (3 ^ n)).foldl (fun s w => zlf S.Wt n (zgw n S.tf 0 w) s) (1000, S.bf) = (List.range (3 ^ n)).foldl (fun s w => zlf S.Wt n (zgw n (1000, S.bf).2 0 w) s) (1000, S.bf) := by
    congr 1
  rw [eF] at h5
  obtain ⟨E, eE⟩ : ∃ E, E = (List.range (3 ^ n)).foldl (fun s w => zlf S.Wt n (zgw n (1000, S.bf).2 0 w) s) (1000, S.bf) := ⟨_, rfl⟩
  rw [← eE] at h5 h6
  -- a good way
  have hE : E.1 < 1000 := by
    have hlt := zw8_l n (by omega)
    have h7 := (zfold_le (W := S.Wt) (n := n) (G := fun w => zgw n (1000, S.bf).2 0 w) (List.range (3 ^ n)) (1000, S.bf)).2 (zw8 / 3 ^ (8 - n)) (List.mem_range.mpr hlt)
    rw [← eE] at h7
    have hd : ∀ k, k < n → zgw n (1000, S.bf).2 0 (zw8 / 3 ^ (8 - n)) k = nI (k % 3) := fun k hk => by
      unfold zgw
      rw [if_neg (Nat.not_lt_zero _), zw8_d n (by omega) k hk]
    have hf := (zcs_ok (W := S.Wt) (g := zgw n (1000, S.bf).2 0 (zw8 / 3 ^ (8 - n))) n (fun one ho => by
      rw [hd one ho, zct_cg (f := zsa (zgw n (1000, S.bf).2 0 (zw8 / 3 ^ (8 - n))) (nI (one % 3))) (g := fun k => decide (nI (k % 3) = nI (one % 3))) one (fun p hp => by unfold zsa; rw [hd p (by omega)])]
      exact zw8_f one (by omega))).2
    have h64 : n * n ≤ 8 * 8 := Nat.mul_le_mul (by omega) (by omega)
    have h7 : E.1 ≤ zcs S.Wt (zgw n (1000, S.bf).2 0 (zw8 / 3 ^ (8 - n))) n := h7
    omega
  have h6 := h6.resolve_left (fun z => by omega)
  obtain ⟨-, k2, k3⟩ := h6
  have hfe : few = E.1 := h4.1.trans h5.1
  have hb : ∀ k, k < n → bf k = E.2 k := fun k hk => (h4.2 k hk).trans (h5.2 k hk)
  obtain ⟨w, hw, hEw⟩ : ∃ w ∈ List.range (3 ^ n), E = (zcs S.Wt (zgw n (1000, S.bf).2 0 w) n, zgw n (1000, S.bf).2 0 w) := by
    rcases zfold_is (W := S.Wt) (n := n) (G := fun w => zgw n (1000, S.bf).2 0 w) (List.range (3 ^ n)) (1000, S.bf) with z | ⟨w, hw, z⟩
    · rw [← eE] at z; rw [z] at hE; exact absurd hE (Nat.lt_irrefl 1000)
    · exact ⟨w, hw, by rw [eE]; exact z⟩
  have hdig : ∀ k, k < n → E.2 k = nI ((w / 3 ^ (n - 1 - k)) % 3) := fun k _ => by
    rw [hEw]; show zgw n (1000, S.bf).2 0 w k = _; unfold zgw; rw [if_neg (Nat.not_lt_zero _)]
  rw [hz, ← en]
  refine ⟨by rw [k2, hfe], fun k hk => by rw [k3 k hk]; exact hb k hk, fun k hk => ⟨_, Nat.mod_lt _ (by decide), by rw [k3 k hk]; exact hdig k hk⟩, fun r hr => ?_⟩
  apply Nat.le_of_not_lt
  intro h9
  obtain ⟨one, o1, o2, o3⟩ := zct_5 n h9
  have hcs : zcs S.Wt E.2 n < 1000 := by
    have : E.1 = zcs S.Wt E.2 n := by rw [hEw]
    omega
  have hno : zct (zsa E.2 (E.2 one)) one < 4 := by
    apply Classical.byContradiction
    intro z
    have := zcs_no (W := S.Wt) (g := E.2) o1 z
    omega
  have heq : zct (fun k => decide (((m_plans (zu X 0 0 0)).2 29 k).toNatClampNeg = r)) one = zct (zsa E.2 (E.2 one)) one := zct_cg one (fun p hp => by
    have hone := of_decide_eq_true o2
    have m3 : ∀ x, x % 3 < 2 ^ 31 := fun x => by have := Nat.mod_lt x (show 3 > 0 by decide); omega
    rw [k3 one o1, hdig one o1, nI_clamp (m3 _)] at hone
    unfold zsa
    rw [k3 p (by omega), hdig p (by omega), hdig one o1, nI_clamp (m3 _), hone]
    congr 1
    refine propext ⟨fun z => by rw [z], fun z => ?_⟩
    have := congrArg Int32.toNatClampNeg z
    rw [nI_clamp (m3 _), nI_clamp (by omega)] at this
    exact this)
  omega
