/-! cells beside the world; the log's replay; a night -/
def zOff (S : zS) (X : zX) (q : Nat) : Prop := (∀ c, zuse X c → S.A c ≠ q) ∧ (∀ e ∈ S.L, e.1 ≠ q) ∧ (∀ e ∈ S.Wt, e.1 ≠ q) ∧ ∀ r, r < 3 → ∀ e ∈ S.Rd r, e.1 ≠ q
theorem zSy.offn {S : zS} {g : zG} {X : zX} {T : zT} (h : zSy S g X T) {q : Nat} (hq : T q = none) : zOff S X q := by
  have hne : ∀ a x, T a = some x → a ≠ q := fun a x ha z => by rw [z, hq] at ha; cases ha
  exact ⟨fun c hc => hne _ _ (h.cell c hc), fun e he => hne _ _ (h.log e he), fun e he => hne _ _ (h.wt e he), fun r hr e he => hne _ _ (h.rd r hr e he)⟩
theorem zSy.off {S : zS} {g : zG} {X : zX} {T : zT} (h : zSy S g X T) {q : Nat} (ho : zOff S X q) (e : Option zE) : zSy S g X (va_up T q e) :=
  ⟨fun d hd => by rw [va_up_ne _ _ (ho.1 d hd)]; exact h.cell d hd, h.inj, fun e he => by have := h.log e he; unfold zWk at this ⊢; rw [va_up_ne _ _ (ho.2.1 e he)]; exact this,
    fun e he => by have := h.wt e he; unfold zCg at this ⊢; rw [va_up_ne _ _ (ho.2.2.1 e he)]; exact this, fun r hr e he => by have := h.rd r hr e he; unfold zCg at this ⊢; rw [va_up_ne _ _ (ho.2.2.2 r hr e he)]; exact this⟩
def zf6 (k : Nat) (i : Nat) : Int32 := if i < k then -1 else 0
theorem zf6_s (k : Nat) : va_up (zf6 k) k (-1) = zf6 (k + 1) := by
  funext i
  unfold zf6
  by_cases h : i = k
  · subst h; rw [va_up_self, if_pos (by omega)]
  · rw [va_up_ne _ _ h]
    by_cases h2 : i < k
    · rw [if_pos h2, if_pos (by omega)]
    · rw [if_neg h2, if_neg (by omega)]
def zhf (f : Nat → Int32) : Nat → Nat → Nat
  | 0, p => p
  | k + 1, p => if f p = -1 then p else zhf f k (f p).toNatClampNeg
def zrp (i : Nat) (s : (Nat → Int32) × Int32) (e : zL4) : (Nat → Int32) × Int32 := if e.2.2.2 = 0 then (va_up s.1 e.2.1 (zro2 e.2.2.1), s.2) else (s.1, s.2 + (if zhf s.1 5 i = e.2.1 then e.2.2.2 else 0))
theorem zftL {α : Type} {f : α → zL4 → α} {x : α} {L : List zL4} {k : Nat} {q : zL4} (h : L[k]? = some q) : (L.take (k + 1)).foldl f x = f ((L.take k).foldl f x) q := by
  rw [List.take_add_one, h, List.foldl_append]; rfl
def zHs (X : zX) (f : Nat → Int32) : Prop := ∀ p, p < mN X → f p = -1 ∨ ∃ h, f p = nI h ∧ h < mN X ∧ mK X h < mK X p
/-- a night -/
def zNX (W : List zC3) (X : zX) : Nat → zX
  | 0 => X
  | j + 1 => match W[j]? with | some e => zu (zNX W X j) 12 e.2.1 1 | none => zNX W X j
def zNS (S : zS) : Nat → zS
  | 0 => S
  | j + 1 => match S.Wt[j]? with | some e => (zNS S j).rS (S.bf j).toNatClampNeg ((zNS S j).Rd (S.bf j).toNatClampNeg ++ [e]) | none => zNS S j
theorem zNX_s {W : List zC3} {X : zX} {j : Nat} {e : zC3} (h : W[j]? = some e) : zNX W X (j + 1) = zu (zNX W X j) 12 e.2.1 1 := by
  show (match W[j]? with | some e => zu (zNX W X j) 12 e.2.1 1 | none => zNX W X j) = _
  rw [h]
theorem zNS_s {S : zS} {j r : Nat} {e : zC3} (h : S.Wt[j]? = some e) (hr : (S.bf j).toNatClampNeg = r) : zNS S (j + 1) = (zNS S j).rS r ((zNS S j).Rd r ++ [e]) := by
  show (match S.Wt[j]? with | some e => (zNS S j).rS (S.bf j).toNatClampNeg ((zNS S j).Rd (S.bf j).toNatClampNeg ++ [e]) | none => zNS S j) = _
  rw [h, hr]
theorem zNX_ne (W : List zC3) (X : zX) {k : Nat} (h : k ≠ 12) : ∀ j, zNX W X j k = X k := by
  intro j
  induction j with
  | zero => rfl
  | succ j ih =>
    cases hw : W[j]? with
    | none =>
      show (match W[j]? with | some e => zu (zNX W X j) 12 e.2.1 1 | none => zNX W X j) k = _
      rw [hw]; exact ih
    | some e => rw [zNX_s hw, zu_row_ne _ _ _ h, ih]
theorem zNS_k (S : zS) : ∀ j, (zNS S j).A = S.A ∧ (zNS S j).Wt = S.Wt ∧ (zNS S j).bf = S.bf ∧ (zNS S j).K = S.K ∧ (zNS S j).TL = S.TL ∧ (zNS S j).L = S.L ∧ ∀ r, ((zNS S j).Rd r).length ≤ (S.Rd r).length + j := by
  intro j
  induction j with
  | zero => exact ⟨rfl, rfl, rfl, rfl, rfl, rfl, fun r => Nat.le_refl _⟩
  | succ j ih =>
    cases h : S.Wt[j]? with
    | none =>
      have e : zNS S (j + 1) = zNS S j := by
        show (match S.Wt[j]? with | some e => (zNS S j).rS (S.bf j).toNatClampNeg ((zNS S j).Rd (S.bf j).toNatClampNeg ++ [e]) | none => zNS S j) = _
        rw [h]
      rw [e]
      exact ⟨ih.1, ih.2.1, ih.2.2.1, ih.2.2.2.1, ih.2.2.2.2.1, ih.2.2.2.2.2.1, fun r => by have := ih.2.2.2.2.2.2 r; omega⟩
    | some e =>
      rw [zNS_s h rfl]
      refine ⟨ih.1, ih.2.1, ih.2.2.1, ih.2.2.2.1, ih.2.2.2.2.1, ih.2.2.2.2.2.1, fun r => ?_⟩
      show (va_up (zNS S j).Rd _ _ r).length ≤ _
      by_cases z : r = (S.bf j).toNatClampNeg
      · subst z
        rw [va_up_self, List.length_append]
        have := ih.2.2.2.2.2.2 (S.bf j).toNatClampNeg
        show _ + 1 ≤ _
        omega
      · rw [va_up_ne _ _ z]
        have := ih.2.2.2.2.2.2 r
        omega
def zS.nw (S : zS) (q : Nat) : zS := zS.of (va_up S.A 7 q) S.K S.TL S.L [] S.Rd S.few S.tf S.bf (va_up S.mu 7 0)
theorem zSy.nw {S : zS} {g : zG} {X : zX} {T : zT} (h : zSy S g X T) {q : Nat} (ho : zOff S X q) (hq : T q = some (.inr (0, []))) {fs : List Value} (hf : fs = [.ref (S.A 1), .ref (S.A 3), .ref (S.A 4), .ref (S.A 5), .ref (S.A 6), .ref q, .ref (S.A 8), .ref (S.A 9), .ref (S.A 10), .int S.few]) : zSy (S.nw q) g X (va_up T (S.A 0) (some (.inl (zo 0 fs)))) := by
  subst hf
  have a7 : (S.nw q).A 7 = q := va_up_self S.A 7 q
  have ao : ∀ c, c ≠ 7 → (S.nw q).A c = S.A c := fun c hc => va_up_ne S.A q hc
  have pa : (S.nw q).pa = S.pa := by funext p; exact ao _ (by omega)
  have mo : ∀ c, c ≠ 7 → (S.nw q).mu c = S.mu c := fun c hc => va_up_ne S.mu 0 hc
  have n0 : S.A 0 ≠ q := ho.1 0 (Or.inl (by omega))
  have cg : ∀ e, zCg S T e → zCg (S.nw q) (va_up T (S.A 0) (some (.inl (zo 0 [.ref (S.A 1), .ref (S.A 3), .ref (S.A 4), .ref (S.A 5), .ref (S.A 6), .ref q, .ref (S.A 8), .ref (S.A 9), .ref (S.A 10), .int S.few])))) e := fun e hz => by
    unfold zCg at hz ⊢
    rw [va_up_ne _ _ (h.ne (c := 0) (Or.inl (by omega)) hz (by omega)), hz, pa]
  refine ⟨fun c hc => ?_, fun c d hc hd z => ?_, fun e he => ?_, fun e he => absurd he List.not_mem_nil, fun r hr e he => cg e (h.rd r hr e he)⟩
  · by_cases z : c = 7
    · subst z
      rw [a7, va_up_ne _ _ n0.symm, hq, zSc_7]
      show _ = some (Sum.inr (va_up S.mu 7 0 7, _))
      rw [va_up_self]; rfl
    · rw [ao c z]
      by_cases z0 : c = 0
      · subst z0
        rw [va_up_self, zSc_0, ao 1 (by omega), ao 3 (by omega), ao 4 (by omega), ao 5 (by omega), ao 6 (by omega), a7, ao 8 (by omega), ao 9 (by omega), ao 10 (by omega)]; rfl
      · rw [va_up_ne _ _ (fun w => z0 (h.inj c 0 hc (Or.inl (by omega)) w)), h.cell c hc]
        congr 1
        rcases hc.cs with h1 | ⟨p, -, h1 | h1 | h1 | h1⟩
        · rcases (show c = 1 ∨ c = 2 ∨ c = 3 ∨ c = 4 ∨ c = 5 ∨ c = 6 ∨ c = 8 ∨ c = 9 ∨ c = 10 ∨ c = 11 ∨ c = 12 ∨ c = 13 by omega) with rfl | rfl | rfl | rfl | rfl | rfl | rfl | rfl | rfl | rfl | rfl | rfl
          · rw [zSc_1, zSc_1, ao 2 (by omega)]
          · rw [zSc_2, zSc_2, pa, mo 2 (by omega)]
          · rw [zSc_3, zSc_3]
          · rw [zSc_4, zSc_4]
          · rw [zSc_5, zSc_5]
          · rw [zSc_6, zSc_6, mo 6 (by omega)]; rfl
          · rw [zSc_8, zSc_8, mo 8 (by omega), ao 11 (by omega), ao 12 (by omega), ao 13 (by omega)]
          · rw [zSc_9, zSc_9]; rfl
          · rw [zSc_10, zSc_10]; rfl
          · rw [zSc_11, zSc_11, mo 11 (by omega)]; rfl
          · rw [zSc_12, zSc_12, mo 12 (by omega)]; rfl
          · rw [zSc_13, zSc_13, mo 13 (by omega)]; rfl
        · subst h1; rw [zSc_p, zSc_p]; unfold zpF; rw [ao (21 + 4 * p) (by omega), ao (23 + 4 * p) (by omega)]
        · subst h1; rw [zSc_t, zSc_t]; unfold znw; rw [pa, ao (22 + 4 * p) (by omega)]
        · subst h1; rw [zSc_l, zSc_l, pa, mo _ (by omega)]; rfl
        · subst h1; rw [zSc_k, zSc_k, pa, mo _ (by omega)]; rfl
  · by_cases z1 : c = 7 <;> by_cases z2 : d = 7
    · rw [z1, z2]
    · rw [z1, a7, ao d z2] at z; exact absurd z.symm (ho.1 d hd)
    · rw [z2, a7, ao c z1] at z; exact absurd z (ho.1 c hc)
    · rw [ao c z1, ao d z2] at z; exact h.inj c d hc hd z
  · have hz := h.log e he
    unfold zWk at hz ⊢
    rw [va_up_ne _ _ (h.ne (c := 0) (Or.inl (by omega)) hz (by omega)), hz, pa]
/-- the model's night, where the system sees it -/
theorem mNg_row {W : List zC3} {X P : zX} (hP : ∀ k, k ≠ 0 → k < 23 → P k = X k) (h27 : P 27 = X 27) (hW : ∀ k e, W[k]? = some e → X 27 k = nI e.2.1 ∧ e.2.1 < 60) : ∀ j, j ≤ W.length → ∀ k, k ≠ 0 → k < 23 → mNg P j k = zNX W X j k := by
  intro j
  induction j with
  | zero => intro _ k h0 h1; exact hP k h0 h1
  | succ j ih =>
    intro hj k h0 h1
    obtain ⟨e, he⟩ : ∃ e, W[j]? = some e := ⟨_, List.getElem?_eq_getElem (by omega)⟩
    rw [zNX_s he]
    show mNg1 (mNg P j) j k = _
    unfold mNg1
    have hw : mWt (mNg P j) j = e.2.1 := by
      unfold mWt
      rw [mNg_cg P (by decide) (by decide) (by decide), h27, (hW j e he).1]
      exact nI_clamp (by have := (hW j e he).2; omega)
    rw [hw]
    by_cases z : k = 12
    · subst z
      rw [zu_row, zu_row, zu_row_ne _ _ _ (by decide), zu_row_ne _ _ _ (by decide), ih (by omega) 12 (by decide) (by decide)]
    · rw [zu_row_ne _ _ _ z, zu_row_ne _ _ _ z, zu_row_ne _ _ _ (by omega), zu_row_ne _ _ _ (by omega), ih (by omega) k h0 h1]
