/-! THE SYSTEM's WORLD: its cells by codes. 0 WheelWorks, 1 Rack, 2 things, 3 lives, 4 intervals, 5 windows, 6 log, 7 waiting, 8 roads, 9 tried, 10 best, 11 12 13 a road's list; of part p: 20 + 4 p itself, + 1 its trail, + 2 the trail's list, + 3 its parts. X is the reference's state: what a part's cell holds is said by it. -/
abbrev zC3 : Type := Nat × Nat × Int32
abbrev zL4 : Type := Nat × Nat × Option Nat × Int32
def zS : Type := (Nat → Nat) × (Nat → List Nat) × (Nat → List (Option Nat)) × List zL4 × List zC3 × (Nat → List zC3) × Int32 × (Nat → Int32) × (Nat → Int32) × (Nat → Int32)
def zS.of (A : Nat → Nat) (K : Nat → List Nat) (TL : Nat → List (Option Nat)) (L : List zL4) (Wt : List zC3) (Rd : Nat → List zC3) (few : Int32) (tf bf mu : Nat → Int32) : zS := (A, K, TL, L, Wt, Rd, few, tf, bf, mu)
abbrev zS.A (S : zS) : Nat → Nat := S.1
abbrev zS.K (S : zS) : Nat → List Nat := S.2.1
abbrev zS.TL (S : zS) : Nat → List (Option Nat) := S.2.2.1
abbrev zS.L (S : zS) : List zL4 := S.2.2.2.1
abbrev zS.Wt (S : zS) : List zC3 := S.2.2.2.2.1
abbrev zS.Rd (S : zS) : Nat → List zC3 := S.2.2.2.2.2.1
abbrev zS.few (S : zS) : Int32 := S.2.2.2.2.2.2.1
abbrev zS.tf (S : zS) : Nat → Int32 := S.2.2.2.2.2.2.2.1
abbrev zS.bf (S : zS) : Nat → Int32 := S.2.2.2.2.2.2.2.2.1
abbrev zS.mu (S : zS) : Nat → Int32 := S.2.2.2.2.2.2.2.2.2
abbrev zS.pa (S : zS) (p : Nat) : Nat := S.A (20 + 4 * p)
def zpF (S : zS) (X : zX) (p : Nat) : List Value := [.int (nI p), .int (X 2 p), .int (X 3 p), .int (X 4 p), .ref (S.A (21 + 4 * p)), .ref (S.A (23 + 4 * p)), .int (zb (decide (X 5 p = -2))), .int (X 6 p), .int (X 7 p), .int (X 8 p), .int (X 9 p), .int (X 10 p), .int (X 18 p), .int (X 19 p), .int (X 13 p), .int (X 14 p), .int (X 15 p), .int (if X 17 p = 0 then -1 else X 16 p), .int (X 11 p), .int (X 12 p)]
def znw (S : zS) (X : zX) (p : Nat) : Option Nat := if X 5 p < 0 then none else some (S.pa (mH X p))
def zSq (S : zS) (X : zX) (r p : Nat) : zE :=
  if r = 0 then .inl (zo 3 (zpF S X p)) else if r = 1 then .inl (zo 4 [.ref (S.A (22 + 4 * p)), va_rf (znw S X p)]) else if r = 2 then .inr (S.mu (22 + 4 * p), (S.TL p).map (Option.map S.pa)) else .inr (S.mu (23 + 4 * p), (S.K p).map (fun q => some (S.pa q)))
def zSc (S : zS) (g : zG) (X : zX) (c : Nat) : zE :=
  match c with
  | 0 => .inl (zo 0 [.ref (S.A 1), .ref (S.A 3), .ref (S.A 4), .ref (S.A 5), .ref (S.A 6), .ref (S.A 7), .ref (S.A 8), .ref (S.A 9), .ref (S.A 10), .int S.few])
  | 1 => .inl (zo 1 [.ref (S.A 2)])
  | 2 => .inr (S.mu 2, (List.range (mN X)).map (fun q => some (S.pa q)))
  | 3 => .inl (zI g 5 (X 20))
  | 4 => .inl (zI g 5 (X 21))
  | 5 => .inl (zI g 5 (X 22))
  | 6 => .inr (S.mu 6, S.L.map (fun e => some e.1))
  | 7 => .inr (S.mu 7, S.Wt.map (fun e => some e.1))
  | 8 => .inr (S.mu 8, [some (S.A 11), some (S.A 12), some (S.A 13)])
  | 9 => .inl (zI g 8 S.tf)
  | 10 => .inl (zI g 8 S.bf)
  | 11 => .inr (S.mu 11, (S.Rd 0).map (fun e => some e.1))
  | 12 => .inr (S.mu 12, (S.Rd 1).map (fun e => some e.1))
  | 13 => .inr (S.mu 13, (S.Rd 2).map (fun e => some e.1))
  | c => zSq S X ((c - 20) % 4) ((c - 20) / 4)
def zuse (X : zX) (c : Nat) : Prop := c < 14 ∨ (20 ≤ c ∧ c < 20 + 4 * mN X)
def zCg (S : zS) (T : zT) (e : zC3) : Prop := T e.1 = some (.inl (zo 8 [.ref (S.pa e.2.1), .int e.2.2]))
def zWk (S : zS) (T : zT) (e : zL4) : Prop := T e.1 = some (.inl (zo 5 [.ref (S.pa e.2.1), va_rf (e.2.2.1.map S.pa), .int e.2.2.2]))
def zSy (S : zS) (g : zG) (X : zX) (T : zT) : Prop := (∀ c, zuse X c → T (S.A c) = some (zSc S g X c)) ∧ (∀ c d, zuse X c → zuse X d → S.A c = S.A d → c = d) ∧ (∀ e ∈ S.L, zWk S T e) ∧ (∀ e ∈ S.Wt, zCg S T e) ∧ ∀ r, r < 3 → ∀ e ∈ S.Rd r, zCg S T e
theorem zSy.cell {S : zS} {g : zG} {X : zX} {T : zT} (h : zSy S g X T) : ∀ c, zuse X c → T (S.A c) = some (zSc S g X c) := h.1
theorem zSy.inj {S : zS} {g : zG} {X : zX} {T : zT} (h : zSy S g X T) : ∀ c d, zuse X c → zuse X d → S.A c = S.A d → c = d := h.2.1
theorem zSy.log {S : zS} {g : zG} {X : zX} {T : zT} (h : zSy S g X T) : ∀ e ∈ S.L, zWk S T e := h.2.2.1
theorem zSy.wt {S : zS} {g : zG} {X : zX} {T : zT} (h : zSy S g X T) : ∀ e ∈ S.Wt, zCg S T e := h.2.2.2.1
theorem zSy.rd {S : zS} {g : zG} {X : zX} {T : zT} (h : zSy S g X T) : ∀ r, r < 3 → ∀ e ∈ S.Rd r, zCg S T e := h.2.2.2.2
theorem zSc_p (S : zS) (g : zG) (X : zX) (p : Nat) : zSc S g X (20 + 4 * p) = .inl (zo 3 (zpF S X p)) := by
  have h : zSc S g X (20 + 4 * p) = zSq S X ((20 + 4 * p - 20) % 4) ((20 + 4 * p - 20) / 4) := by
    rw [show 20 + 4 * p = (4 * p + 6) + 14 by omega]; rfl
  rw [h, show (20 + 4 * p - 20) % 4 = 0 by omega, show (20 + 4 * p - 20) / 4 = p by omega]; rfl
theorem zSc_t (S : zS) (g : zG) (X : zX) (p : Nat) : zSc S g X (21 + 4 * p) = .inl (zo 4 [.ref (S.A (22 + 4 * p)), va_rf (znw S X p)]) := by
  have h : zSc S g X (21 + 4 * p) = zSq S X ((21 + 4 * p - 20) % 4) ((21 + 4 * p - 20) / 4) := by
    rw [show 21 + 4 * p = (4 * p + 7) + 14 by omega]; rfl
  rw [h, show (21 + 4 * p - 20) % 4 = 1 by omega, show (21 + 4 * p - 20) / 4 = p by omega]; rfl
theorem zSc_l (S : zS) (g : zG) (X : zX) (p : Nat) : zSc S g X (22 + 4 * p) = .inr (S.mu (22 + 4 * p), (S.TL p).map (Option.map S.pa)) := by
  have h : zSc S g X (22 + 4 * p) = zSq S X ((22 + 4 * p - 20) % 4) ((22 + 4 * p - 20) / 4) := by
    rw [show 22 + 4 * p = (4 * p + 8) + 14 by omega]; rfl
  rw [h, show (22 + 4 * p - 20) % 4 = 2 by omega, show (22 + 4 * p - 20) / 4 = p by omega]; rfl
theorem zSc_k (S : zS) (g : zG) (X : zX) (p : Nat) : zSc S g X (23 + 4 * p) = .inr (S.mu (23 + 4 * p), (S.K p).map (fun q => some (S.pa q))) := by
  have h : zSc S g X (23 + 4 * p) = zSq S X ((23 + 4 * p - 20) % 4) ((23 + 4 * p - 20) / 4) := by
    rw [show 23 + 4 * p = (4 * p + 9) + 14 by omega]; rfl
  rw [h, show (23 + 4 * p - 20) % 4 = 3 by omega, show (23 + 4 * p - 20) / 4 = p by omega]; rfl
/-- the codes, one by one -/
theorem zuse.cs {X : zX} {c : Nat} (h : zuse X c) : c < 14 ∨ ∃ p, p < mN X ∧ (c = 20 + 4 * p ∨ c = 21 + 4 * p ∨ c = 22 + 4 * p ∨ c = 23 + 4 * p) := by
  rcases h with h | ⟨h1, h2⟩
  · exact Or.inl h
  · exact Or.inr ⟨(c - 20) / 4, by omega, by omega⟩
theorem zSc_ne (S : zS) (g : zG) (X : zX) {c : Nat} (hc : zuse X c) {ci : Nat} {fs : List Value} (h : 5 ≤ ci) : zSc S g X c ≠ .inl (zo ci fs) := by
  intro e
  rcases hc.cs with h1 | ⟨p, -, h1 | h1 | h1 | h1⟩
  · have h2 : c = 0 ∨ c = 1 ∨ c = 2 ∨ c = 3 ∨ c = 4 ∨ c = 5 ∨ c = 6 ∨ c = 7 ∨ c = 8 ∨ c = 9 ∨ c = 10 ∨ c = 11 ∨ c = 12 ∨ c = 13 := by omega
    rcases h2 with rfl | rfl | rfl | rfl | rfl | rfl | rfl | rfl | rfl | rfl | rfl | rfl | rfl | rfl <;> (cases e <;> omega)
  · rw [h1, zSc_p] at e; cases e; omega
  · rw [h1, zSc_t] at e; cases e; omega
  · rw [h1, zSc_l] at e; cases e
  · rw [h1, zSc_k] at e; cases e
theorem zSy.ne {S : zS} {g : zG} {X : zX} {T : zT} (h : zSy S g X T) {c q ci : Nat} {fs : List Value} (hc : zuse X c) (hq : T q = some (.inl (zo ci fs))) (h5 : 5 ≤ ci) : q ≠ S.A c := by
  intro z
  rw [z, h.cell c hc] at hq
  exact zSc_ne S g X hc h5 (Option.some.inj hq)
/-- one code's cell rewritten -/
theorem zSy.up {S S' : zS} {g : zG} {X X' : zX} {T : zT} (h : zSy S g X T) {c : Nat} (hc : zuse X c) {e : zE} (hA : S'.A = S.A) (hn : mN X' = mN X) (hL : ∀ e ∈ S'.L, e ∈ S.L) (hW : ∀ e ∈ S'.Wt, e ∈ S.Wt) (hR : ∀ r, r < 3 → ∀ e ∈ S'.Rd r, zCg S T e) (he : zSc S' g X' c = e) (ho : ∀ d, zuse X d → d ≠ c → zSc S' g X' d = zSc S g X d) : zSy S' g X' (va_up T (S.A c) (some e)) := by
  have hu : ∀ d, zuse X' d → zuse X d := fun d hd => by unfold zuse at hd ⊢; rw [hn] at hd; exact hd
  have hp : S'.pa = S.pa := by funext p; show S'.A _ = S.A _; rw [hA]
  have hcg : ∀ e, zCg S T e → zCg S' (va_up T (S.A c) (some (zSc S' g X' c))) e := fun e hz => by
    unfold zCg at hz ⊢
    rw [va_up_ne _ _ (h.ne hc hz (by omega)), hz, hp]
  subst he
  refine ⟨fun d hd => ?_, fun d1 d2 h1 h2 z => ?_, fun e he => ?_, fun e he => hcg e (h.wt e (hW e he)), fun r hr e he => hcg e (hR r hr e he)⟩
  · rw [hA]
    by_cases z : d = c
    · subst z; rw [va_up_self]
    · rw [va_up_ne _ _ (fun w => z (h.inj _ _ (hu d hd) hc w)), h.cell d (hu d hd), ho d (hu d hd) z]
  · rw [hA] at z; exact h.inj _ _ (hu _ h1) (hu _ h2) z
  · have hz := h.log e (hL e he)
    unfold zWk at hz ⊢
    rw [va_up_ne _ _ (h.ne hc hz (by omega)), hz, hp]
/-- a cell of another kind written, or a new one -/
theorem zSy.fresh {S : zS} {g : zG} {X : zX} {T : zT} (h : zSy S g X T) {q : Nat} (hq : T q = none) (e : zE) : zSy S g X (va_up T q (some e)) := by
  have hne : ∀ a x, T a = some x → a ≠ q := fun a x ha z => by rw [z, hq] at ha; cases ha
  exact ⟨fun d hd => by rw [va_up_ne _ _ (hne _ _ (h.cell d hd))]; exact h.cell d hd, h.inj, fun e he => by have := h.log e he; unfold zWk at this ⊢; rw [va_up_ne _ _ (hne _ _ this)]; exact this,
    fun e he => by have := h.wt e he; unfold zCg at this ⊢; rw [va_up_ne _ _ (hne _ _ this)]; exact this, fun r hr e he => by have := h.rd r hr e he; unfold zCg at this ⊢; rw [va_up_ne _ _ (hne _ _ this)]; exact this⟩
theorem zSy.other {S : zS} {g : zG} {X : zX} {T : zT} (h : zSy S g X T) {q ci : Nat} {fs : List Value} (hq : T q = some (.inl (zo ci fs))) (h5 : 5 ≤ ci) (h55 : ci ≠ 5) (h58 : ci ≠ 8) (e : zE) : zSy S g X (va_up T q (some e)) := by
  refine ⟨fun d hd => by rw [va_up_ne _ _ (Ne.symm (h.ne hd hq h5))]; exact h.cell d hd, h.inj, fun e he => ?_, fun e he => ?_, fun r hr e he => ?_⟩
  · have := h.log e he; unfold zWk at this ⊢; rw [va_up_ne _ _ (fun z => by rw [z, hq] at this; cases this; omega)]; exact this
  · have := h.wt e he; unfold zCg at this ⊢; rw [va_up_ne _ _ (fun z => by rw [z, hq] at this; cases this; omega)]; exact this
  · have := h.rd r hr e he; unfold zCg at this ⊢; rw [va_up_ne _ _ (fun z => by rw [z, hq] at this; cases this; omega)]; exact this
theorem zSy.w {S : zS} {g : zG} {X : zX} {T : zT} (h : zSy S g X T) : T (S.A 0) = some (.inl (zo 0 [.ref (S.A 1), .ref (S.A 3), .ref (S.A 4), .ref (S.A 5), .ref (S.A 6), .ref (S.A 7), .ref (S.A 8), .ref (S.A 9), .ref (S.A 10), .int S.few])) := h.cell 0 (Or.inl (by omega))
theorem zSy.rk {S : zS} {g : zG} {X : zX} {T : zT} (h : zSy S g X T) : T (S.A 1) = some (.inl (zo 1 [.ref (S.A 2)])) := h.cell 1 (Or.inl (by omega))
theorem zSy.th {S : zS} {g : zG} {X : zX} {T : zT} (h : zSy S g X T) : T (S.A 2) = some (.inr (S.mu 2, (List.range (mN X)).map (fun q => some (S.pa q)))) := h.cell 2 (Or.inl (by omega))
theorem zSy.p {S : zS} {g : zG} {X : zX} {T : zT} (h : zSy S g X T) {p : Nat} (hp : p < mN X) : T (S.pa p) = some (.inl (zo 3 (zpF S X p))) := (h.cell (20 + 4 * p) (Or.inr (by omega))).trans (congrArg some (zSc_p S g X p))
theorem zSy.t {S : zS} {g : zG} {X : zX} {T : zT} (h : zSy S g X T) {p : Nat} (hp : p < mN X) : T (S.A (21 + 4 * p)) = some (.inl (zo 4 [.ref (S.A (22 + 4 * p)), va_rf (znw S X p)])) := (h.cell (21 + 4 * p) (Or.inr (by omega))).trans (congrArg some (zSc_t S g X p))
theorem zSy.l {S : zS} {g : zG} {X : zX} {T : zT} (h : zSy S g X T) {p : Nat} (hp : p < mN X) : T (S.A (22 + 4 * p)) = some (.inr (S.mu (22 + 4 * p), (S.TL p).map (Option.map S.pa))) := (h.cell (22 + 4 * p) (Or.inr (by omega))).trans (congrArg some (zSc_l S g X p))
theorem zSy.k {S : zS} {g : zG} {X : zX} {T : zT} (h : zSy S g X T) {p : Nat} (hp : p < mN X) : T (S.A (23 + 4 * p)) = some (.inr (S.mu (23 + 4 * p), (S.K p).map (fun q => some (S.pa q)))) := (h.cell (23 + 4 * p) (Or.inr (by omega))).trans (congrArg some (zSc_k S g X p))
theorem zSy.pinj {S : zS} {g : zG} {X : zX} {T : zT} (h : zSy S g X T) {p q : Nat} (hp : p < mN X) (hq : q < mN X) (e : S.pa p = S.pa q) : p = q := by
  have := h.inj (20 + 4 * p) (20 + 4 * q) (Or.inr (by omega)) (Or.inr (by omega)) e
  omega
theorem mPl_0 (x : Int32) : mPl (nI 0) x = if x = 1 then 2 else 0 := by
  by_cases h : x = 1
  · subst h; decide
  · rw [if_neg h]; unfold mPl; rw [if_neg (by decide), if_neg (fun q => h q.2)]
theorem mPl_1 (x : Int32) : mPl (nI 1) x = if x = 2 then 2 else 0 := by
  by_cases h : x = 2
  · subst h; decide
  · rw [if_neg h]; unfold mPl; rw [if_neg (by decide), if_neg (fun q => h (q.2.trans (by decide)))]
theorem mPl_2 (x : Int32) : mPl (nI 2) x = if x = 3 then 2 else if x = 4 then 1 else 0 := by
  unfold mPl; rw [if_pos (by decide)]
theorem mPl_3 (x : Int32) : mPl (nI 3) x = 0 := by
  unfold mPl; rw [if_neg (by decide), if_neg (fun q => absurd q.1 (by decide))]
theorem mPl_4 (x : Int32) : mPl (nI 4) x = 0 := by
  unfold mPl; rw [if_neg (by decide), if_neg (fun q => absurd q.1 (by decide))]
theorem MH.low {X : zX} (h : MH X) {p : Nat} (hp : p < mN X) (hn : X 5 p < 0) : X 5 p = -1 ∨ X 5 p = -2 := by
  rcases h.2.2 p hp with e | e | ⟨e, h1, -⟩
  · exact Or.inl e
  · exact Or.inr e
  · exact absurd (by rw [e] at hn; exact hn) (nI_pos (n := mH X p) (by have := h.1.2; omega))
/-- the parts in a part's list are parts -/
def zKo (S : zS) (X : zX) : Prop := ∀ p, p < mN X → (S.K p).length ≤ 60 ∧ ∀ q ∈ S.K p, q < mN X
/-- how many of the first k are so -/
def zcK (L : List Nat) (f : Nat → Bool) (k : Nat) : Nat := (L.take k).countP f
theorem zcK_0 (L : List Nat) (f : Nat → Bool) : zcK L f 0 = 0 := rfl
theorem zcK_s {L : List Nat} {f : Nat → Bool} {k q : Nat} (h : L[k]? = some q) : zcK L f (k + 1) = zcK L f k + (if f q = true then 1 else 0) := by
  unfold zcK
  rw [List.take_add_one, h, List.countP_append]
  cases hf : f q <;> simp [hf]
theorem zcK_t {L : List Nat} {f : Nat → Bool} {k : Nat} (h : L.length ≤ k) : zcK L f k = L.countP f := by
  unfold zcK; rw [List.take_of_length_le h]
theorem zcK_le (L : List Nat) (f : Nat → Bool) (k : Nat) : zcK L f k ≤ L.length := Nat.le_trans List.countP_le_length (List.length_take_le' k L)
theorem zb_ior (a b : Bool) : zb a ||| zb b = zb (a || b) := by cases a <;> cases b <;> decide
def zlk (S : zS) (X : zX) (i k : Nat) : Bool := decide (nI ((S.K i).countP (fun q => decide (X 2 q = nI k))) < mPl (X 2 i) (nI k))
/-- a part's kids are of higher kinds -/
def zKk (S : zS) (X : zX) : Prop := ∀ p, p < mN X → ∀ q ∈ S.K p, mK X p < mK X q
def zdS (X : zX) (b : Bool) (f : Nat → Int32) (acc : Int32) (q : Nat) : Int32 := if X 2 q = 4 then acc else if b = true then (if acc < f q then f q else acc) else (if f q < acc then f q else acc)
def zdi (S : zS) (X : zX) (b : Bool) : Nat → Nat → Int32
  | 0, _ => 0
  | n + 1, i => (S.K i).foldl (zdS X b (zdi S X b n)) (if X 2 i = 3 then X 13 i else if b = true then 0 else 2147483647)
theorem zft {α : Type} {f : α → Nat → α} {x : α} {L : List Nat} {k q : Nat} (h : L[k]? = some q) : (L.take (k + 1)).foldl f x = f ((L.take k).foldl f x) q := by
  rw [List.take_add_one, h, List.foldl_append]; rfl
def zUn (S : zS) (X : zX) (i : Nat) : Bool := decide ((if X 2 i = 2 then 20 else if X 2 i = 1 then 60 else 99999) < zdi S X true 5 i - zdi S X false 5 i)
theorem zdS_m {X : zX} {b : Bool} {f : Nat → Int32} {acc : Int32} {q : Nat} (h : X 2 q = 4) : zdS X b f acc q = acc := by unfold zdS; rw [if_pos h]
theorem zdS_t {X : zX} {b : Bool} {f : Nat → Int32} {acc : Int32} {q : Nat} (h : ¬ X 2 q = 4) (hb : b = true) : zdS X b f acc q = if acc < f q then f q else acc := by unfold zdS; rw [if_neg h, if_pos hb]
theorem zdS_f {X : zX} {b : Bool} {f : Nat → Int32} {acc : Int32} {q : Nat} (h : ¬ X 2 q = 4) (hb : b = false) : zdS X b f acc q = if f q < acc then f q else acc := by unfold zdS; rw [if_neg h, if_neg (by rw [hb]; decide)]
def zfc (x : Int32) : Int32 := if x = 0 then 1 else if x = 2 then 3 else 2
theorem mIs_p {X : zX} {x : Int32} (hI : MH X) (h : mIs X x = true) : x = nI x.toNatClampNeg ∧ x.toNatClampNeg < mN X := by
  obtain ⟨p, hp, rfl⟩ := mIs_t hI h
  have hn := hI.1.2
  rw [nI_clamp (by omega)]
  exact ⟨rfl, hp⟩
theorem zSy.a3 {S : zS} {g : zG} {X : zX} {T : zT} (h : zSy S g X T) : T (S.A 3) = some (.inl (zI g 5 (X 20))) := h.cell 3 (Or.inl (by omega))
theorem zSy.a4 {S : zS} {g : zG} {X : zX} {T : zT} (h : zSy S g X T) : T (S.A 4) = some (.inl (zI g 5 (X 21))) := h.cell 4 (Or.inl (by omega))
theorem zSy.a5 {S : zS} {g : zG} {X : zX} {T : zT} (h : zSy S g X T) : T (S.A 5) = some (.inl (zI g 5 (X 22))) := h.cell 5 (Or.inl (by omega))
theorem zSy.lg {S : zS} {g : zG} {X : zX} {T : zT} (h : zSy S g X T) : T (S.A 6) = some (.inr (S.mu 6, S.L.map (fun e => some e.1))) := h.cell 6 (Or.inl (by omega))
theorem zSy.wl {S : zS} {g : zG} {X : zX} {T : zT} (h : zSy S g X T) : T (S.A 7) = some (.inr (S.mu 7, S.Wt.map (fun e => some e.1))) := h.cell 7 (Or.inl (by omega))
theorem zSy.rds {S : zS} {g : zG} {X : zX} {T : zT} (h : zSy S g X T) : T (S.A 8) = some (.inr (S.mu 8, [some (S.A 11), some (S.A 12), some (S.A 13)])) := h.cell 8 (Or.inl (by omega))
theorem zSy.a9 {S : zS} {g : zG} {X : zX} {T : zT} (h : zSy S g X T) : T (S.A 9) = some (.inl (zI g 8 S.tf)) := h.cell 9 (Or.inl (by omega))
theorem zSy.a10 {S : zS} {g : zG} {X : zX} {T : zT} (h : zSy S g X T) : T (S.A 10) = some (.inl (zI g 8 S.bf)) := h.cell 10 (Or.inl (by omega))
theorem zSy.ro {S : zS} {g : zG} {X : zX} {T : zT} (h : zSy S g X T) {r : Nat} (hr : r < 3) : T (S.A (11 + r)) = some (.inr (S.mu (11 + r), (S.Rd r).map (fun e => some e.1))) := by
  rcases (show r = 0 ∨ r = 1 ∨ r = 2 by omega) with rfl | rfl | rfl
  · exact h.cell 11 (Or.inl (by omega))
  · exact h.cell 12 (Or.inl (by omega))
  · exact h.cell 13 (Or.inl (by omega))
/-- a bar, as the system sees it -/
def zBr (S : zS) (X : zX) (i r : Nat) : Bool := if r = 1 then zany (zlk S X i) 5 else if r = 6 then zUn S X i else mBb X i r
/-- the waiting and the standing trains are parts -/
def zWo (S : zS) (X : zX) : Prop := (S.Wt.length ≤ 8 ∧ ∀ e ∈ S.Wt, e.2.1 < mN X) ∧ ∀ r, r < 3 → (S.Rd r).length ≤ 4 ∧ ∀ e ∈ S.Rd r, e.2.1 < mN X
def zLa (L : List zC3) (f : zC3 → Bool) (k : Nat) : Bool := (L.take k).any f
theorem zLa_s {L : List zC3} {f : zC3 → Bool} {k : Nat} {e : zC3} (h : L[k]? = some e) : zLa L f (k + 1) = (zLa L f k || f e) := by
  unfold zLa
  rw [List.take_add_one, h, List.any_append]
  simp
theorem zLa_t {L : List zC3} {f : zC3 → Bool} {k : Nat} (h : L.length ≤ k) : zLa L f k = L.any f := by
  unfold zLa; rw [List.take_of_length_le h]
/-- the first reason that bars -/
def zre (S : zS) (X : zX) (t : Nat) : Nat → Nat → Nat
  | 0, _ => 0
  | k + 1, r => if (zfi (fun i => decide (mHd X i = t) && zBr S X i r) (mN X) 0).isSome = true then r else zre S X t k (r + 1)
section ZCO
variable {p : Program} {l : Launch} {e : Env} {R : Room} {s : State} {m : MethodId} {args : Array Value} {below : List Frame} {meth : Method} {c : Code} {H : Heap} {locs : List Loc} {cells slots : Nat} {Q : State → Prop}
variable {cc : ByteArray} {pc : Nat} {ls : Array Slot} {rest : List Value}
theorem zl_castO (hexec : p.tables.exec = Jvm.exec) (hb : c.code = cc) {own nm : String} {cC : ClassId} {index : Nat} {x : Option Nat} (hown : s.vm.findClass own = some m.cls) (hlink : (Cond.classLink own index nm).before args s = true) (hc : ClassAt s nm cC)
    (hr : ∀ a, x = some a → ∃ cell : Cell, H[a]? = some cell ∧ cell.vm.isStatics = false ∧ s.vm.findClass nm = some cell.cls) (hdg : decode cc pc = .ok (.checkcast index, 3))
    (k : W p l e R s m args below meth c H locs cells slots Q (F0 m (pc + 3) ls (va_rf x :: rest))) : W p l e R s m args below meth c H locs cells slots Q (F0 m pc ls (va_rf x :: rest)) := by
  cases x with
  | none => exact lv_castN hexec hb hdg k
  | some a => exact va_castS hexec hb hown hlink hc (hr a rfl) hdg k
end ZCO
theorem zfi_lt {f : Nat → Bool} : ∀ (k j i : Nat), zfi f k j = some i → i < j + k ∧ f i = true := by
  intro k
  induction k with
  | zero => intro j i h; cases h
  | succ k ih =>
    intro j i h
    unfold zfi at h
    split at h
    · next c => cases h; exact ⟨by omega, c⟩
    · have := ih _ _ h; exact ⟨by omega, this.2⟩
theorem zTH.drop {g : zG} {A : Nat → Prop} {T : zT} {H : Heap} {q : Nat} {e : zE} (h : zTH g A (va_up T q (some e)) H) (hq : T q = none) : zTH g A T H :=
  h.sub (fun a x ha => by rw [va_up_ne _ _ (fun z => by rw [z, hq] at ha; cases ha)]; exact ha)
