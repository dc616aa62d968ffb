/-! WRITES of the system's lists -/
theorem zSy.up2 {S S' : zS} {g : zG} {X X' : zX} {T : zT} (h : zSy S g X T) {c : Nat} (hc : zuse X c) {e : zE} (hA : S'.A = S.A) (hn : mN X' = mN X) (hL : ∀ e ∈ S'.L, zWk S T e) (hW : ∀ e ∈ S'.Wt, zCg S T e) (hR : ∀ r, r < 3 → ∀ e ∈ S'.Rd r, zCg S T e) (he : zSc S' g X' c = e) (ho : ∀ d, zuse X d → d ≠ c → zSc S' g X' d = zSc S g X d) : zSy S' g X' (va_up T (S.A c) (some e)) := by
  have hu : ∀ d, zuse X' d → zuse X d := fun d hd => by unfold zuse at hd ⊢; rw [hn] at hd; exact hd
  have hp : S'.pa = S.pa := by funext p; show S'.A _ = S.A _; rw [hA]
  have hcg : ∀ e, zCg S T e → zCg S' (va_up T (S.A c) (some (zSc S' g X' c))) e := fun e hz => by
    unfold zCg at hz ⊢
    rw [va_up_ne _ _ (h.ne hc hz (by omega)), hz, hp]
  subst he
  refine ⟨fun d hd => ?_, fun d1 d2 h1 h2 z => ?_, fun e he => ?_, fun e he => hcg e (hW e he), fun r hr e he => hcg e (hR r hr e he)⟩
  · rw [hA]
    by_cases z : d = c
    · subst z; rw [va_up_self]
    · rw [va_up_ne _ _ (fun w => z (h.inj _ _ (hu d hd) hc w)), h.cell d (hu d hd), ho d (hu d hd) z]
  · rw [hA] at z; exact h.inj _ _ (hu _ h1) (hu _ h2) z
  · have hz := hL e he
    unfold zWk at hz ⊢
    rw [va_up_ne _ _ (h.ne hc hz (by omega)), hz, hp]
def zS.kS (S : zS) (i : Nat) (xs : List Nat) : zS := zS.of S.A (va_up S.K i xs) S.TL S.L S.Wt S.Rd S.few S.tf S.bf (va_up S.mu (23 + 4 * i) (S.mu (23 + 4 * i) + 1))
def zS.tA (S : zS) (i : Nat) (o : Option Nat) : zS := zS.of S.A S.K (va_up S.TL i (S.TL i ++ [o])) S.L S.Wt S.Rd S.few S.tf S.bf (va_up S.mu (22 + 4 * i) (S.mu (22 + 4 * i) + 1))
def zS.lA (S : zS) (e : zL4) : zS := zS.of S.A S.K S.TL (S.L ++ [e]) S.Wt S.Rd S.few S.tf S.bf (va_up S.mu 6 (S.mu 6 + 1))
def zS.wA (S : zS) (e : zC3) : zS := zS.of S.A S.K S.TL S.L (S.Wt ++ [e]) S.Rd S.few S.tf S.bf (va_up S.mu 7 (S.mu 7 + 1))
def zS.rS (S : zS) (r : Nat) (xs : List zC3) : zS := zS.of S.A S.K S.TL S.L S.Wt (va_up S.Rd r xs) S.few S.tf S.bf (va_up S.mu (11 + r) (S.mu (11 + r) + 1))
def zS.gS (S : zS) (few : Int32) (tf bf : Nat → Int32) : zS := zS.of S.A S.K S.TL S.L S.Wt S.Rd few tf bf S.mu
/-- what is written is no other code's -/
theorem zSc_oth (S S' : zS) (g : zG) (X : zX) {c : Nat} (hA : S'.A = S.A) (hf : c = 0 ∨ S'.few = S.few) (hm : ∀ d, d ≠ c → S'.mu d = S.mu d) (hK : ∀ p, 23 + 4 * p ≠ c → S'.K p = S.K p) (hT : ∀ p, 22 + 4 * p ≠ c → S'.TL p = S.TL p) (hL : c = 6 ∨ S'.L = S.L) (hW : c = 7 ∨ S'.Wt = S.Wt) (hR : ∀ r, r < 3 → 11 + r ≠ c → S'.Rd r = S.Rd r) (ht : c = 9 ∨ S'.tf = S.tf) (hb : c = 10 ∨ S'.bf = S.bf) {d : Nat} (hd : zuse X d) (hn : d ≠ c) : zSc S' g X d = zSc S g X d := by
  have hp : S'.pa = S.pa := by funext p; show S'.A _ = S.A _; rw [hA]
  rcases hd.cs with h | ⟨p, -, h | h | h | h⟩
  · have h2 : d = 0 ∨ d = 1 ∨ d = 2 ∨ d = 3 ∨ d = 4 ∨ d = 5 ∨ d = 6 ∨ d = 7 ∨ d = 8 ∨ d = 9 ∨ d = 10 ∨ d = 11 ∨ d = 12 ∨ d = 13 := by omega
    rcases h2 with rfl | rfl | rfl | rfl | rfl | rfl | rfl | rfl | rfl | rfl | rfl | rfl | rfl | rfl
    · rw [zSc_0, zSc_0, hA, hf.resolve_left (fun z => hn z.symm)]
    · rw [zSc_1, zSc_1, hA]
    · rw [zSc_2, zSc_2, hp, hm _ hn]
    · rw [zSc_3, zSc_3]
    · rw [zSc_4, zSc_4]
    · rw [zSc_5, zSc_5]
    · rw [zSc_6, zSc_6, hm _ hn, hL.resolve_left (fun z => hn z.symm)]
    · rw [zSc_7, zSc_7, hm _ hn, hW.resolve_left (fun z => hn z.symm)]
    · rw [zSc_8, zSc_8, hm _ hn, hA]
    · rw [zSc_9, zSc_9, ht.resolve_left (fun z => hn z.symm)]
    · rw [zSc_10, zSc_10, hb.resolve_left (fun z => hn z.symm)]
    · rw [zSc_11, zSc_11, hm _ hn, hR 0 (by omega) hn]
    · rw [zSc_12, zSc_12, hm _ hn, hR 1 (by omega) hn]
    · rw [zSc_13, zSc_13, hm _ hn, hR 2 (by omega) hn]
  · subst h; rw [zSc_p, zSc_p]; unfold zpF; rw [hA]
  · subst h; rw [zSc_t, zSc_t]; unfold znw; rw [hA, hp]
  · subst h; rw [zSc_l, zSc_l, hm _ hn, hp, hT p hn]
  · subst h; rw [zSc_k, zSc_k, hm _ hn, hp, hK p hn]
theorem va_upd {α : Type} (f : Nat → α) {i j : Nat} (x : α) (h : j ≠ i) : va_up f i x j = f j := va_up_ne _ _ h
theorem zSy.kS {S : zS} {g : zG} {X : zX} {T : zT} (h : zSy S g X T) {i : Nat} (hi : i < mN X) (xs : List Nat) {ys : List (Option Nat)} (hy : ys = xs.map (fun q => some (S.pa q))) : zSy (S.kS i xs) g X (va_up T (S.A (23 + 4 * i)) (some (.inr (S.mu (23 + 4 * i) + 1, ys)))) := by
  subst hy
  refine h.up2 (c := 23 + 4 * i) (Or.inr (by omega)) rfl rfl h.log h.wt h.rd ?_ (fun d hd hn => zSc_oth S (S.kS i xs) g X rfl (Or.inr rfl) (fun d h => va_up_ne _ _ h) (fun p hp => va_up_ne _ _ (fun z => hp (by rw [z]))) (fun _ _ => rfl) (Or.inr rfl) (Or.inr rfl) (fun _ _ _ => rfl) (Or.inr rfl) (Or.inr rfl) hd hn)
  rw [zSc_k]
  show Sum.inr (va_up S.mu (23 + 4 * i) _ (23 + 4 * i), (va_up S.K i xs i).map _) = _
  rw [va_up_self, va_up_self]; rfl
theorem zSy.tA {S : zS} {g : zG} {X : zX} {T : zT} (h : zSy S g X T) {i : Nat} (hi : i < mN X) (o : Option Nat) {ys : List (Option Nat)} (hy : ys = (S.TL i).map (Option.map S.pa) ++ [o.map S.pa]) : zSy (S.tA i o) g X (va_up T (S.A (22 + 4 * i)) (some (.inr (S.mu (22 + 4 * i) + 1, ys)))) := by
  subst hy
  refine h.up2 (c := 22 + 4 * i) (Or.inr (by omega)) rfl rfl h.log h.wt h.rd ?_ (fun d hd hn => zSc_oth S (S.tA i o) g X rfl (Or.inr rfl) (fun d h => va_up_ne _ _ h) (fun _ _ => rfl) (fun p hp => va_up_ne _ _ (fun z => hp (by rw [z]))) (Or.inr rfl) (Or.inr rfl) (fun _ _ _ => rfl) (Or.inr rfl) (Or.inr rfl) hd hn)
  rw [zSc_l]
  show Sum.inr (va_up S.mu (22 + 4 * i) _ (22 + 4 * i), (va_up S.TL i _ i).map _) = _
  rw [va_up_self, va_up_self, List.map_append]; rfl
theorem zSy.lA {S : zS} {g : zG} {X : zX} {T : zT} (h : zSy S g X T) (e : zL4) (he : zWk S T e) {ys : List (Option Nat)} (hy : ys = S.L.map (fun e => some e.1) ++ [some e.1]) : zSy (S.lA e) g X (va_up T (S.A 6) (some (.inr (S.mu 6 + 1, ys)))) := by
  subst hy
  refine h.up2 (c := 6) (Or.inl (by omega)) rfl rfl (fun z hz => ?_) h.wt h.rd ?_ (fun d hd hn => zSc_oth S (S.lA e) g X rfl (Or.inr rfl) (fun d h => va_up_ne _ _ h) (fun _ _ => rfl) (fun _ _ => rfl) (Or.inl rfl) (Or.inr rfl) (fun _ _ _ => rfl) (Or.inr rfl) (Or.inr rfl) hd hn)
  · rcases List.mem_append.mp hz with hz | hz
    · exact h.log z hz
    · rw [List.mem_singleton.mp hz]; exact he
  · rw [zSc_6]
    show Sum.inr (va_up S.mu 6 _ 6, (S.L ++ [e]).map _) = _
    rw [va_up_self, List.map_append]; rfl
theorem zSy.wA {S : zS} {g : zG} {X : zX} {T : zT} (h : zSy S g X T) (e : zC3) (he : zCg S T e) {ys : List (Option Nat)} (hy : ys = S.Wt.map (fun e => some e.1) ++ [some e.1]) : zSy (S.wA e) g X (va_up T (S.A 7) (some (.inr (S.mu 7 + 1, ys)))) := by
  subst hy
  refine h.up2 (c := 7) (Or.inl (by omega)) rfl rfl h.log (fun z hz => ?_) h.rd ?_ (fun d hd hn => zSc_oth S (S.wA e) g X rfl (Or.inr rfl) (fun d h => va_up_ne _ _ h) (fun _ _ => rfl) (fun _ _ => rfl) (Or.inr rfl) (Or.inl rfl) (fun _ _ _ => rfl) (Or.inr rfl) (Or.inr rfl) hd hn)
  · rcases List.mem_append.mp hz with hz | hz
    · exact h.wt z hz
    · rw [List.mem_singleton.mp hz]; exact he
  · rw [zSc_7]
    show Sum.inr (va_up S.mu 7 _ 7, (S.Wt ++ [e]).map _) = _
    rw [va_up_self, List.map_append]; rfl
theorem zSc_r (S : zS) (g : zG) (X : zX) {r : Nat} (hr : r < 3) : zSc S g X (11 + r) = .inr (S.mu (11 + r), (S.Rd r).map (fun e => some e.1)) := by
  rcases (show r = 0 ∨ r = 1 ∨ r = 2 by omega) with rfl | rfl | rfl
  · exact zSc_11 S g X
  · exact zSc_12 S g X
  · exact zSc_13 S g X
theorem zSy.rS {S : zS} {g : zG} {X : zX} {T : zT} (h : zSy S g X T) {r : Nat} (hr : r < 3) (xs : List zC3) (hx : ∀ e ∈ xs, zCg S T e) {ys : List (Option Nat)} (hy : ys = xs.map (fun e => some e.1)) : zSy (S.rS r xs) g X (va_up T (S.A (11 + r)) (some (.inr (S.mu (11 + r) + 1, ys)))) := by
  subst hy
  refine h.up2 (c := 11 + r) (Or.inl (by omega)) rfl rfl h.log h.wt (fun r2 hr2 e he => ?_) ?_ (fun d hd hn => zSc_oth S (S.rS r xs) g X rfl (Or.inr rfl) (fun d h => va_up_ne _ _ h) (fun _ _ => rfl) (fun _ _ => rfl) (Or.inr rfl) (Or.inr rfl) (fun r2 _ h2 => va_up_ne _ _ (fun z => h2 (by rw [z]))) (Or.inr rfl) (Or.inr rfl) hd hn)
  · by_cases z : r2 = r
    · subst z
      have he : e ∈ va_up S.Rd r2 xs r2 := he
      rw [va_up_self] at he; exact hx e he
    · have he : e ∈ va_up S.Rd r xs r2 := he
      rw [va_up_ne _ _ z] at he; exact h.rd r2 hr2 e he
  · rw [zSc_r _ _ _ hr]
    show Sum.inr (va_up S.mu (11 + r) _ (11 + r), (va_up S.Rd r xs r).map _) = _
    rw [va_up_self, va_up_self]
theorem zSy.few {S : zS} {g : zG} {X : zX} {T : zT} (h : zSy S g X T) (v : Int32) {fs : List Value} (hf : fs = [.ref (S.A 1), .ref (S.A 3), .ref (S.A 4), .ref (S.A 5), .ref (S.A 6), .ref (S.A 7), .ref (S.A 8), .ref (S.A 9), .ref (S.A 10), .int v]) : zSy (S.gS v S.tf S.bf) g X (va_up T (S.A 0) (some (.inl (zo 0 fs)))) := by
  subst hf
  exact h.up2 (c := 0) (Or.inl (by omega)) rfl rfl h.log h.wt h.rd rfl (fun d hd hn => zSc_oth S (S.gS v S.tf S.bf) g X rfl (Or.inl rfl) (fun d h => rfl) (fun _ _ => rfl) (fun _ _ => rfl) (Or.inr rfl) (Or.inr rfl) (fun _ _ _ => rfl) (Or.inr rfl) (Or.inr rfl) hd hn)
theorem zSy.tf {S : zS} {g : zG} {X : zX} {T : zT} (h : zSy S g X T) (f : Nat → Int32) : zSy (S.gS S.few f S.bf) g X (va_up T (S.A 9) (some (.inl (zI g 8 f)))) :=
  h.up2 (c := 9) (Or.inl (by omega)) rfl rfl h.log h.wt h.rd rfl (fun d hd hn => zSc_oth S (S.gS S.few f S.bf) g X rfl (Or.inr rfl) (fun d h => rfl) (fun _ _ => rfl) (fun _ _ => rfl) (Or.inr rfl) (Or.inr rfl) (fun _ _ _ => rfl) (Or.inl rfl) (Or.inr rfl) hd hn)
theorem zSy.bf {S : zS} {g : zG} {X : zX} {T : zT} (h : zSy S g X T) (f : Nat → Int32) : zSy (S.gS S.few S.tf f) g X (va_up T (S.A 10) (some (.inl (zI g 8 f)))) :=
  h.up2 (c := 10) (Or.inl (by omega)) rfl rfl h.log h.wt h.rd rfl (fun d hd hn => zSc_oth S (S.gS S.few S.tf f) g X rfl (Or.inr rfl) (fun d h => rfl) (fun _ _ => rfl) (fun _ _ => rfl) (Or.inr rfl) (Or.inr rfl) (fun _ _ _ => rfl) (Or.inr rfl) (Or.inl rfl) hd hn)
/-- the trail's now, with the host's row -/
theorem zSy.now {S : zS} {g : zG} {X : zX} {T : zT} (h : zSy S g X T) {i : Nat} (hi : i < mN X) (v : Int32) (h2 : decide (v = -2) = decide (X 5 i = -2)) {fs : List Value} (hf : fs = [.ref (S.A (22 + 4 * i)), va_rf (znw S (zu X 5 i v) i)]) : zSy S g (zu X 5 i v) (va_up T (S.A (21 + 4 * i)) (some (.inl (zo 4 fs)))) := by
  subst hf
  refine h.up2 (c := 21 + 4 * i) (Or.inr (by omega)) rfl (mN_zu X i v (by decide)) h.log h.wt h.rd (zSc_t _ _ _ _) (fun d hd hn => ?_)
  rcases hd.cs with h1 | ⟨p, -, h1 | h1 | h1 | h1⟩
  · have h3 : d = 0 ∨ d = 1 ∨ d = 2 ∨ d = 3 ∨ d = 4 ∨ d = 5 ∨ d = 6 ∨ d = 7 ∨ d = 8 ∨ d = 9 ∨ d = 10 ∨ d = 11 ∨ d = 12 ∨ d = 13 := by omega
    rcases h3 with rfl | rfl | rfl | rfl | rfl | rfl | rfl | rfl | rfl | rfl | rfl | rfl | rfl | rfl
    · rw [zSc_0, zSc_0]
    · rw [zSc_1, zSc_1]
    · rw [zSc_2, zSc_2, mN_zu X i v (by decide)]
    · rw [zSc_3, zSc_3, zu_row_ne _ _ _ (by decide)]
    · rw [zSc_4, zSc_4, zu_row_ne _ _ _ (by decide)]
    · rw [zSc_5, zSc_5, zu_row_ne _ _ _ (by decide)]
    · rw [zSc_6, zSc_6]
    · rw [zSc_7, zSc_7]
    · rw [zSc_8, zSc_8]
    · rw [zSc_9, zSc_9]
    · rw [zSc_10, zSc_10]
    · rw [zSc_11, zSc_11]
    · rw [zSc_12, zSc_12]
    · rw [zSc_13, zSc_13]
  · subst h1
    rw [zSc_p, zSc_p]
    by_cases z : p = i
    · subst z
      have e : ∀ j, j ≠ 5 → zu X 5 p v j p = X j p := fun j hj => zu_n _ _ _ _ (fun q => hj q.1)
      unfold zpF
      rw [zu_s, h2, e 2 (by decide), e 3 (by decide), e 4 (by decide), e 6 (by decide), e 7 (by decide), e 8 (by decide), e 9 (by decide), e 10 (by decide), e 18 (by decide), e 19 (by decide), e 13 (by decide), e 14 (by decide), e 15 (by decide), e 17 (by decide), e 16 (by decide), e 11 (by decide), e 12 (by decide)]
    · rw [zpF_ne S X v z]
  · subst h1
    have z : p ≠ i := fun z => hn (by rw [z])
    rw [zSc_t, zSc_t]
    have e : zu X 5 i v 5 p = X 5 p := zu_n _ _ _ _ (fun q => z q.2)
    unfold znw mH
    rw [e]
  · subst h1
    rw [zSc_l, zSc_l]
  · subst h1
    rw [zSc_k, zSc_k]
/-- scrapped: the part's own mark -/
theorem zSy.scr {S : zS} {g : zG} {X : zX} {T : zT} (h : zSy S g X T) {i : Nat} (hi : i < mN X) (h1 : X 5 i < 0) {fs : List Value} (hf : fs = (zpF S X i).set 6 (.int 1)) : zSy S g (zu X 5 i (-2)) (va_up T (S.pa i) (some (.inl (zo 3 fs)))) := by
  have e0 : fs = zpF S (zu X 5 i (-2)) i := by rw [hf]; simp [zpF, zu, zb]
  subst e0
  refine h.up2 (c := 20 + 4 * i) (Or.inr (by omega)) rfl (mN_zu X i _ (by decide)) h.log h.wt h.rd (zSc_p _ _ _ _) (fun d hd hn => ?_)
  rcases hd.cs with h2 | ⟨p, -, h2 | h2 | h2 | h2⟩
  · have h3 : d = 0 ∨ d = 1 ∨ d = 2 ∨ d = 3 ∨ d = 4 ∨ d = 5 ∨ d = 6 ∨ d = 7 ∨ d = 8 ∨ d = 9 ∨ d = 10 ∨ d = 11 ∨ d = 12 ∨ d = 13 := by omega
    rcases h3 with rfl | rfl | rfl | rfl | rfl | rfl | rfl | rfl | rfl | rfl | rfl | rfl | rfl | rfl
    · rw [zSc_0, zSc_0]
    · rw [zSc_1, zSc_1]
    · rw [zSc_2, zSc_2, mN_zu X i _ (by decide)]
    · rw [zSc_3, zSc_3, zu_row_ne _ _ _ (by decide)]
    · rw [zSc_4, zSc_4, zu_row_ne _ _ _ (by decide)]
    · rw [zSc_5, zSc_5, zu_row_ne _ _ _ (by decide)]
    · rw [zSc_6, zSc_6]
    · rw [zSc_7, zSc_7]
    · rw [zSc_8, zSc_8]
    · rw [zSc_9, zSc_9]
    · rw [zSc_10, zSc_10]
    · rw [zSc_11, zSc_11]
    · rw [zSc_12, zSc_12]
    · rw [zSc_13, zSc_13]
  · subst h2
    have z : p ≠ i := fun z => hn (by rw [z])
    rw [zSc_p, zSc_p, zpF_ne S X _ z]
  · subst h2
    rw [zSc_t, zSc_t]
    by_cases z : p = i
    · subst z
      unfold znw
      rw [zu_s, if_pos h1, if_pos (by decide)]
    · have e : zu X 5 i (-2) 5 p = X 5 p := zu_n _ _ _ _ (fun q => z q.2)
      unfold znw mH
      rw [e]
  · subst h2
    rw [zSc_l, zSc_l]
  · subst h2
    rw [zSc_k, zSc_k]
/-- the limits' arrays -/
theorem zSy.lim {S : zS} {g : zG} {X : zX} {T : zT} (h : zSy S g X T) (k : Nat) (hk : k = 20 ∨ k = 21 ∨ k = 22) (i : Nat) (v : Int32) : zSy S g (zu X k i v) (va_up T (S.A (k - 17)) (some (.inl (zI g 5 (va_up (X k) i v))))) := by
  have hnk : ∀ j, j < 20 → j ≠ k := fun j hj => by omega
  refine h.up2 (c := k - 17) (Or.inl (by omega)) rfl (mN_zu X i v (by omega)) h.log h.wt h.rd ?_ (fun d hd hn => ?_)
  · rcases hk with rfl | rfl | rfl
    · show zSc S g _ 3 = _; rw [zSc_3, zu_row]
    · show zSc S g _ 4 = _; rw [zSc_4, zu_row]
    · show zSc S g _ 5 = _; rw [zSc_5, zu_row]
  rcases hd.cs with h2 | ⟨p, -, h2 | h2 | h2 | h2⟩
  · have h3 : d = 0 ∨ d = 1 ∨ d = 2 ∨ d = 3 ∨ d = 4 ∨ d = 5 ∨ d = 6 ∨ d = 7 ∨ d = 8 ∨ d = 9 ∨ d = 10 ∨ d = 11 ∨ d = 12 ∨ d = 13 := by omega
    rcases h3 with rfl | rfl | rfl | rfl | rfl | rfl | rfl | rfl | rfl | rfl | rfl | rfl | rfl | rfl
    · rw [zSc_0, zSc_0]
    · rw [zSc_1, zSc_1]
    · rw [zSc_2, zSc_2, mN_zu X i v (by omega)]
    · rw [zSc_3, zSc_3, zu_row_ne _ _ _ (by omega)]
    · rw [zSc_4, zSc_4, zu_row_ne _ _ _ (by omega)]
    · rw [zSc_5, zSc_5, zu_row_ne _ _ _ (by omega)]
    · rw [zSc_6, zSc_6]
    · rw [zSc_7, zSc_7]
    · rw [zSc_8, zSc_8]
    · rw [zSc_9, zSc_9]
    · rw [zSc_10, zSc_10]
    · rw [zSc_11, zSc_11]
    · rw [zSc_12, zSc_12]
    · rw [zSc_13, zSc_13]
  · subst h2
    have e : ∀ j, j < 20 → zu X k i v j p = X j p := fun j hj => zu_n _ _ _ _ (fun q => hnk j hj q.1)
    rw [zSc_p, zSc_p]
    unfold zpF
    rw [e 2 (by decide), e 3 (by decide), e 4 (by decide), e 5 (by decide), e 6 (by decide), e 7 (by decide), e 8 (by decide), e 9 (by decide), e 10 (by decide), e 18 (by decide), e 19 (by decide), e 13 (by decide), e 14 (by decide), e 15 (by decide), e 17 (by decide), e 16 (by decide), e 11 (by decide), e 12 (by decide)]
  · subst h2
    rw [zSc_t, zSc_t, znw_zu S X i v (by omega)]
  · subst h2
    rw [zSc_l, zSc_l]
  · subst h2
    rw [zSc_k, zSc_k]
def zS0 (AA : Nat → Nat) : zS := zS.of AA (fun _ => []) (fun _ => []) [] [] (fun _ => []) 0 (fun _ => 0) (fun _ => 0) (fun c => if c = 8 then 3 else 0)
theorem zdup14 {L : List Nat} (h : L.Nodup) (hl : L.length = 14) : ∀ c d, c < 14 → d < 14 → L.getD c 0 = L.getD d 0 → c = d := by
  intro c d hc hd e
  rw [List.getD_eq_getElem?_getD, List.getD_eq_getElem?_getD, List.getElem?_eq_getElem (by omega), List.getElem?_eq_getElem (by omega)] at e
  exact (List.getElem_inj h).mp e
theorem zSy.start {g : zG} {T : zT} {AA : Nat → Nat} (hi : ∀ c d, c < 14 → d < 14 → AA c = AA d → c = d)
    (h0 : T (AA 0) = some (.inl (zo 0 [.ref (AA 1), .ref (AA 3), .ref (AA 4), .ref (AA 5), .ref (AA 6), .ref (AA 7), .ref (AA 8), .ref (AA 9), .ref (AA 10), .int 0]))) (h1 : T (AA 1) = some (.inl (zo 1 [.ref (AA 2)]))) (h2 : T (AA 2) = some (.inr (0, [])))
    (h3 : T (AA 3) = some (.inl (zI g 5 (fun _ => 0)))) (h4 : T (AA 4) = some (.inl (zI g 5 (fun _ => 0)))) (h5 : T (AA 5) = some (.inl (zI g 5 (fun _ => 0)))) (h6 : T (AA 6) = some (.inr (0, []))) (h7 : T (AA 7) = some (.inr (0, []))) (h8 : T (AA 8) = some (.inr (3, [some (AA 11), some (AA 12), some (AA 13)])))
    (h9 : T (AA 9) = some (.inl (zI g 8 (fun _ => 0)))) (h10 : T (AA 10) = some (.inl (zI g 8 (fun _ => 0)))) (h11 : T (AA 11) = some (.inr (0, []))) (h12 : T (AA 12) = some (.inr (0, []))) (h13 : T (AA 13) = some (.inr (0, []))) : zSy (zS0 AA) g (fun _ _ => 0) T := by
  have hn0 : mN (fun _ _ => 0) = 0 := by decide
  have hc14 : ∀ c, zuse (fun _ _ => 0) c → c < 14 := fun c hc => by unfold zuse at hc; rw [hn0] at hc; omega
  refine And.intro (fun c hc => ?_) (And.intro (fun c d hc hd z => hi c d (hc14 c hc) (hc14 d hd) z) (And.intro (fun e he => absurd he List.not_mem_nil) (And.intro (fun e he => absurd he List.not_mem_nil) (fun r hr e he => absurd he List.not_mem_nil))))
  show T (AA c) = _
  have hz := hc14 c hc
  rcases (show c = 0 ∨ c = 1 ∨ c = 2 ∨ c = 3 ∨ c = 4 ∨ c = 5 ∨ c = 6 ∨ c = 7 ∨ c = 8 ∨ c = 9 ∨ c = 10 ∨ c = 11 ∨ c = 12 ∨ c = 13 by omega) with rfl | rfl | rfl | rfl | rfl | rfl | rfl | rfl | rfl | rfl | rfl | rfl | rfl | rfl
  · rw [h0, zSc_0]; rfl
  · rw [h1, zSc_1]; rfl
  · rw [h2, zSc_2, hn0]; rfl
  · rw [h3, zSc_3]
  · rw [h4, zSc_4]
  · rw [h5, zSc_5]
  · rw [h6, zSc_6]; rfl
  · rw [h7, zSc_7]; rfl
  · rw [h8, zSc_8]; rfl
  · rw [h9, zSc_9]; rfl
  · rw [h10, zSc_10]; rfl
  · rw [h11, zSc_11]; rfl
  · rw [h12, zSc_12]; rfl
  · rw [h13, zSc_13]; rfl
