/-! the search: all assignments, the lower roads first -/
def zex (W : List zC3) : Nat → Nat → Nat → (Nat → Int32) → (Nat × (Nat → Int32)) → Nat × (Nat → Int32)
  | 0, _, mv, tf, s => if mv < s.1 then (mv, tf) else s
  | r + 1, one, mv, tf, s => (List.range 3).foldl (fun s d => zex W r (one + 1) (mv + zsm W tf one (nI d)) (va_up tf one (nI d)) s) s
theorem zex_hi (W : List zC3) : ∀ r one mv tf s, s.1 ≤ mv → zex W r one mv tf s = s := by
  intro r
  induction r with
  | zero => intro one mv tf s h; show (if mv < s.1 then (mv, tf) else s) = s; rw [if_neg (by omega)]
  | succ r ih =>
    intro one mv tf s h
    show (List.range 3).foldl (fun s d => zex W r (one + 1) (mv + zsm W tf one (nI d)) (va_up tf one (nI d)) s) s = s
    have : ∀ (L : List Nat), L.foldl (fun s d => zex W r (one + 1) (mv + zsm W tf one (nI d)) (va_up tf one (nI d)) s) s = s := by
      intro L
      induction L with
      | nil => rfl
      | cons d L ihL =>
        show L.foldl _ (zex W r (one + 1) (mv + zsm W tf one (nI d)) (va_up tf one (nI d)) s) = s
        rw [ih _ _ _ s (by omega)]; exact ihL
    exact this _
/-- the same number, the same first n roads -/
def zsr_ (n : Nat) (a b : Nat × (Nat → Int32)) : Prop := a.1 = b.1 ∧ ∀ k, k < n → a.2 k = b.2 k
theorem zct_cg2 {f g : Nat → Bool} {n : Nat} (h : ∀ p, p < n → f p = g p) : zct f n = zct g n := zct_cg n h
theorem zsm_cg {W : List zC3} {tf t2 : Nat → Int32} {one : Nat} (rd : Int32) (h : ∀ k, k < one → tf k = t2 k) : zsm W tf one rd = zsm W t2 one rd := by
  unfold zsm
  rw [zct_cg2 (f := zsa tf rd) (g := zsa t2 rd) (fun p hp => by unfold zsa; rw [h p hp]), zct_cg2 (f := zsb W tf one rd) (g := zsb W t2 one rd) (fun p hp => by unfold zsb; rw [h p hp])]
theorem zex_cg (W : List zC3) {n : Nat} : ∀ r one mv tf t2 s s2, one + r = n → (∀ k, k < one → tf k = t2 k) → zsr_ n s s2 → zsr_ n (zex W r one mv tf s) (zex W r one mv t2 s2) := by
  intro r
  induction r with
  | zero =>
    intro one mv tf t2 s s2 hn ht hs
    show zsr_ n (if mv < s.1 then (mv, tf) else s) (if mv < s2.1 then (mv, t2) else s2)
    rw [← hs.1]
    split
    · exact ⟨rfl, fun k hk => ht k (by omega)⟩
    · exact hs
  | succ r ih =>
    intro one mv tf t2 s s2 hn ht hs
    have key : ∀ (L : List Nat) s s2, zsr_ n s s2 → zsr_ n (L.foldl (fun s d => zex W r (one + 1) (mv + zsm W tf one (nI d)) (va_up tf one (nI d)) s) s) (L.foldl (fun s d => zex W r (one + 1) (mv + zsm W t2 one (nI d)) (va_up t2 one (nI d)) s) s2) := by
      intro L
      induction L with
      | nil => intro s s2 h; exact h
      | cons d L ihL =>
        intro s s2 h
        refine ihL _ _ ?_
        show zsr_ n (zex W r (one + 1) (mv + zsm W tf one (nI d)) (va_up tf one (nI d)) s) (zex W r (one + 1) (mv + zsm W t2 one (nI d)) (va_up t2 one (nI d)) s2)
        rw [zsm_cg (nI d) ht]
        exact ih _ _ _ _ _ _ (by omega) (fun k hk => by
          by_cases z : k = one
          · rw [z, va_up_self, va_up_self]
          · rw [va_up_ne _ _ z, va_up_ne _ _ z]; exact ht k (by omega)) h
    exact key _ _ _ hs
/-- give computes it: pruning loses nothing -/
theorem zgv_ex (W : List zC3) (b : Bool) (hn8 : W.length ≤ 8) : ∀ f one mv (few : Nat) (tf bf : Nat → Int32) (sb : Nat × (Nat → Int32)), W.length < one + f → one ≤ W.length → mv ≤ 3000 → few ≤ 1000 → zsr_ W.length (few, bf) sb →
    ∃ few' tf' bf', zgv W b f one mv (nI few, tf, bf) = (nI few', tf', bf') ∧ few' ≤ 1000 ∧ (∀ k, k < one → tf' k = tf k) ∧ zsr_ W.length (few', bf') (zex W (W.length - one) one mv tf sb) := by
  intro f
  induction f with
  | zero => intro one mv few tf bf sb h1 h2; omega
  | succ f ih =>
    intro one mv few tf bf sb hf hone hmv hfew hs
    have hlt : ∀ {x y : Nat}, x < 2 ^ 31 → y < 2 ^ 31 → (nI x < nI y ↔ x < y) := fun hx hy => nI_ltI hx hy
    have hbnd : (if b = true then nI few else (1000 : Int32)) = nI (if b = true then few else 1000) := by split <;> rfl
    have hun : zgv W b (f + 1) one mv (nI few, tf, bf) = if nI mv < (if b = true then nI few else 1000) then
      (if one = W.length then (if nI mv < nI few then (nI mv, tf, va_cpy tf bf 0 0 8) else (nI few, tf, bf))
       else (((List.range 3).foldl (zgs (zgv W b f) W one mv) (nI few, tf, bf)).1, va_up ((List.range 3).foldl (zgs (zgv W b f) W one mv) (nI few, tf, bf)).2.1 one (-1), ((List.range 3).foldl (zgs (zgv W b f) W one mv) (nI few, tf, bf)).2.2))
      else (nI few, tf, bf) := rfl
    rw [hun, hbnd]
    have hb1 : (if b = true then few else 1000) ≤ 1000 := by split <;> omega
    have hb2 : few ≤ (if b = true then few else 1000) := by split <;> omega
    by_cases c : mv < (if b = true then few else 1000)
    · rw [if_pos ((hlt (by omega) (by omega)).mpr c)]
      by_cases e : one = W.length
      · rw [if_pos e]
        have er : W.length - one = 0 := by omega
        rw [er]
        show ∃ few' tf' bf', _ ∧ _ ∧ _ ∧ zsr_ W.length (few', bf') (if mv < sb.1 then (mv, tf) else sb)
        rw [← hs.1]
        by_cases d : mv < few
        · rw [if_pos ((hlt (by omega) (by omega)).mpr d), if_pos d]
          refine ⟨mv, tf, _, rfl, by omega, fun _ _ => rfl, rfl, fun k hk => ?_⟩
          show va_cpy tf bf 0 0 8 k = tf k
          unfold va_cpy
          rw [if_pos (by omega)]; simp
        · rw [if_neg (fun z => d ((hlt (by omega) (by omega)).mp z)), if_neg d]
          exact ⟨few, tf, bf, rfl, hfew, fun _ _ => rfl, hs⟩
      · rw [if_neg e]
        have er : W.length - one = (W.length - (one + 1)) + 1 := by omega
        rw [er]
        have ho1 : one + 1 + (W.length - (one + 1)) = W.length := by omega
        have key : ∀ r, r ≤ 3 → ∃ few' tf' bf', (List.range r).foldl (zgs (zgv W b f) W one mv) (nI few, tf, bf) = (nI few', tf', bf') ∧ few' ≤ 1000 ∧ (∀ k, k < one → tf' k = tf k) ∧ zsr_ W.length (few', bf') ((List.range r).foldl (fun s d => zex W (W.length - (one + 1)) (one + 1) (mv + zsm W tf one (nI d)) (va_up tf one (nI d)) s) sb) := by
          intro r
          induction r with
          | zero => intro _; exact ⟨few, tf, bf, rfl, hfew, fun _ _ => rfl, hs⟩
          | succ r ihr =>
            intro hr
            obtain ⟨f1, t1, b1, q1, q2, q3, q4⟩ := ihr (by omega)
            have hm : zsm W t1 one (nI r) = zsm W tf one (nI r) := zsm_cg _ q3
            have hle := zsm_le W tf one (nI r) (by omega)
            obtain ⟨f2, t2, b2, p1, p2, p3, p4⟩ := ih (one + 1) (mv + zsm W tf one (nI r)) f1 (va_up t1 one (nI r)) b1 _ (by omega) (by omega) (by omega) q2 q4
            refine ⟨f2, t2, b2, ?_, p2, fun k hk => ?_, ?_⟩
            · rw [zgs_s, q1]
              show zgv W b f (one + 1) (mv + zsm W t1 one (nI r)) (nI f1, va_up t1 one (nI r), b1) = _
              rw [hm]; exact p1
            · rw [p3 k (by omega), va_up_ne _ _ (by omega)]; exact q3 k hk
            · rw [List.range_succ, List.foldl_append]
              show zsr_ W.length (f2, b2) (zex W (W.length - (one + 1)) (one + 1) (mv + zsm W tf one (nI r)) (va_up tf one (nI r)) _)
              have ht1 : ∀ k, k < one + 1 → va_up t1 one (nI r) k = va_up tf one (nI r) k := fun k hk => by
                by_cases z : k = one
                · rw [z, va_up_self, va_up_self]
                · rw [va_up_ne _ _ z, va_up_ne _ _ z]; exact q3 k (by omega)
              have hc := zex_cg W (n := W.length) (W.length - (one + 1)) (one + 1) (mv + zsm W tf one (nI r)) (va_up t1 one (nI r)) (va_up tf one (nI r)) ((List.range r).foldl (fun s d => zex W (W.length - (one + 1)) (one + 1) (mv + zsm W tf one (nI d)) (va_up tf one (nI d)) s) sb) _ ho1 ht1 ⟨rfl, fun _ _ => rfl⟩
              exact ⟨p4.1.trans hc.1, fun k hk => (p4.2 k hk).trans (hc.2 k hk)⟩
        obtain ⟨f3, t3, b3, k1, k2, k3, k4⟩ := key 3 (Nat.le_refl _)
        rw [k1]
        exact ⟨f3, va_up t3 one (-1), b3, rfl, k2, fun k hk => (va_up_ne _ _ (by omega)).trans (k3 k hk), k4⟩
    · rw [if_neg (fun z => c ((hlt (by omega) (by omega)).mp z))]
      refine ⟨few, tf, bf, rfl, hfew, fun _ _ => rfl, ?_⟩
      by_cases hb : b = true
      · rw [if_pos hb] at c
        rw [zex_hi W _ _ _ _ sb (by rw [← hs.1]; omega)]; exact hs
      · rw [if_neg hb] at c
        rw [zex_hi W _ _ _ _ sb (by rw [← hs.1]; show few ≤ mv; omega)]; exact hs
