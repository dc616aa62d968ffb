/-! WRITES in the system's world -/
theorem mN_zu (X : zX) {k : Nat} (i : Nat) (v : Int32) (h : k ≠ 1) : mN (zu X k i v) = mN X := by unfold mN; rw [zu_n _ _ _ _ (fun q => h q.1.symm)]
theorem zpF_ne (S : zS) (X : zX) {k i p : Nat} (v : Int32) (h : p ≠ i) : zpF S (zu X k i v) p = zpF S X p := by
  have e : ∀ j, zu X k i v j p = X j p := fun j => zu_n _ _ _ _ (fun q => h q.2)
  unfold zpF
  simp only [e]
theorem znw_zu (S : zS) (X : zX) {k : Nat} (i : Nat) (v : Int32) (h : k ≠ 5) (p : Nat) : znw S (zu X k i v) p = znw S X p := by
  have e : zu X k i v 5 p = X 5 p := zu_n _ _ _ _ (fun q => h q.1.symm)
  unfold znw mH
  rw [e]
/-- rows that only a part's own cell shows -/
def zrow (k : Nat) : Bool := decide (k ≠ 1 ∧ k ≠ 5 ∧ k ≠ 20 ∧ k ≠ 21 ∧ k ≠ 22)
theorem zSc_0 (S : zS) (g : zG) (X : zX) : zSc S g X 0 = .inl (zo 0 [.ref (S.A 1), .ref (S.A 3), .ref (S.A 4), .ref (S.A 5), .ref (S.A 6), .ref (S.A 7), .ref (S.A 8), .ref (S.A 9), .ref (S.A 10), .int S.few]) := rfl
theorem zSc_1 (S : zS) (g : zG) (X : zX) : zSc S g X 1 = .inl (zo 1 [.ref (S.A 2)]) := rfl
theorem zSc_2 (S : zS) (g : zG) (X : zX) : zSc S g X 2 = .inr (S.mu 2, (List.range (mN X)).map (fun q => some (S.pa q))) := rfl
theorem zSc_3 (S : zS) (g : zG) (X : zX) : zSc S g X 3 = .inl (zI g 5 (X 20)) := rfl
theorem zSc_4 (S : zS) (g : zG) (X : zX) : zSc S g X 4 = .inl (zI g 5 (X 21)) := rfl
theorem zSc_5 (S : zS) (g : zG) (X : zX) : zSc S g X 5 = .inl (zI g 5 (X 22)) := rfl
theorem zSc_6 (S : zS) (g : zG) (X : zX) : zSc S g X 6 = .inr (S.mu 6, S.L.map (fun e => some e.1)) := rfl
theorem zSc_7 (S : zS) (g : zG) (X : zX) : zSc S g X 7 = .inr (S.mu 7, S.Wt.map (fun e => some e.1)) := rfl
theorem zSc_8 (S : zS) (g : zG) (X : zX) : zSc S g X 8 = .inr (S.mu 8, [some (S.A 11), some (S.A 12), some (S.A 13)]) := rfl
theorem zSc_9 (S : zS) (g : zG) (X : zX) : zSc S g X 9 = .inl (zI g 8 S.tf) := rfl
theorem zSc_10 (S : zS) (g : zG) (X : zX) : zSc S g X 10 = .inl (zI g 8 S.bf) := rfl
theorem zSc_11 (S : zS) (g : zG) (X : zX) : zSc S g X 11 = .inr (S.mu 11, (S.Rd 0).map (fun e => some e.1)) := rfl
theorem zSc_12 (S : zS) (g : zG) (X : zX) : zSc S g X 12 = .inr (S.mu 12, (S.Rd 1).map (fun e => some e.1)) := rfl
theorem zSc_13 (S : zS) (g : zG) (X : zX) : zSc S g X 13 = .inr (S.mu 13, (S.Rd 2).map (fun e => some e.1)) := rfl
theorem zSc_zu (S : zS) (g : zG) (X : zX) {k i : Nat} (v : Int32) (hk : zrow k = true) {d : Nat} (hd : zuse X d) (hn : d ≠ 20 + 4 * i) : zSc S g (zu X k i v) d = zSc S g X d := by
  obtain ⟨h1, h5, h20, h21, h22⟩ := of_decide_eq_true hk
  rcases hd.cs with h | ⟨p, -, h | h | h | h⟩
  · have h2 : d = 0 ∨ d = 1 ∨ d = 2 ∨ d = 3 ∨ d = 4 ∨ d = 5 ∨ d = 6 ∨ d = 7 ∨ d = 8 ∨ d = 9 ∨ d = 10 ∨ d = 11 ∨ d = 12 ∨ d = 13 := by omega
    rcases h2 with rfl | rfl | rfl | rfl | rfl | rfl | rfl | rfl | rfl | rfl | rfl | rfl | rfl | rfl
    · rw [zSc_0, zSc_0]
    · rw [zSc_1, zSc_1]
    · rw [zSc_2, zSc_2, mN_zu X i v h1]
    · rw [zSc_3, zSc_3, zu_row_ne _ _ _ (Ne.symm h20)]
    · rw [zSc_4, zSc_4, zu_row_ne _ _ _ (Ne.symm h21)]
    · rw [zSc_5, zSc_5, zu_row_ne _ _ _ (Ne.symm h22)]
    · rw [zSc_6, zSc_6]
    · rw [zSc_7, zSc_7]
    · rw [zSc_8, zSc_8]
    · rw [zSc_9, zSc_9]
    · rw [zSc_10, zSc_10]
    · rw [zSc_11, zSc_11]
    · rw [zSc_12, zSc_12]
    · rw [zSc_13, zSc_13]
  · subst h
    rw [zSc_p, zSc_p, zpF_ne S X v (fun z => hn (by rw [z]))]
  · subst h
    rw [zSc_t, zSc_t, znw_zu S X i v h5]
  · subst h
    rw [zSc_l, zSc_l]
  · subst h
    rw [zSc_k, zSc_k]
theorem zSy.pw {S : zS} {g : zG} {X : zX} {T : zT} (h : zSy S g X T) {i : Nat} (hi : i < mN X) (k : Nat) (v : Int32) (hk : zrow k = true) {fs : List Value} (hf : fs = zpF S (zu X k i v) i) : zSy S g (zu X k i v) (va_up T (S.pa i) (some (.inl (zo 3 fs)))) := by
  subst hf
  exact h.up (c := 20 + 4 * i) (Or.inr (by omega)) rfl (mN_zu X i v (of_decide_eq_true hk).1) (fun _ h => h) (fun _ h => h) (fun r hr => h.rd r hr) (zSc_p S g _ i) (fun d hd hn => zSc_zu S g X v hk hd hn)
/-- the model's world at another state that shows the same -/
theorem zSy.gate {S : zS} {g : zG} {X : zX} {T : zT} (h : zSy S g X T) {i : Nat} (hi : i < mN X) (v : Int32) {fs : List Value} (hf : fs = zpF S (zu (zu X 16 i v) 17 i 1) i) : zSy S g (zu (zu X 16 i v) 17 i 1) (va_up T (S.pa i) (some (.inl (zo 3 fs)))) := by
  subst hf
  have hn2 : mN (zu (zu X 16 i v) 17 i 1) = mN X := by rw [mN_zu _ _ _ (by decide), mN_zu _ _ _ (by decide)]
  refine h.up (c := 20 + 4 * i) (Or.inr (by omega)) rfl hn2 (fun _ h => h) (fun _ h => h) (fun r hr => h.rd r hr) (zSc_p S g _ i) (fun d hd hn => ?_)
  rw [zSc_zu S g _ 1 (by decide) (by unfold zuse at hd ⊢; rw [mN_zu _ _ _ (by decide)]; exact hd) hn, zSc_zu S g X v (by decide) hd hn]
/-- rows that no cell of the system shows -/
theorem zpF_hid (S : zS) (X : zX) {k : Nat} (i : Nat) (v : Int32) (h : k = 0 ∨ 23 ≤ k) (p : Nat) : zpF S (zu X k i v) p = zpF S X p := by
  have e : ∀ j, j ≠ 0 → j < 23 → zu X k i v j p = X j p := fun j h0 h1 => zu_n _ _ _ _ (fun q => by omega)
  unfold zpF
  rw [e 2 (by decide) (by decide), e 3 (by decide) (by decide), e 4 (by decide) (by decide), e 5 (by decide) (by decide), e 6 (by decide) (by decide), e 7 (by decide) (by decide), e 8 (by decide) (by decide), e 9 (by decide) (by decide), e 10 (by decide) (by decide), e 18 (by decide) (by decide), e 19 (by decide) (by decide), e 13 (by decide) (by decide), e 14 (by decide) (by decide), e 15 (by decide) (by decide), e 17 (by decide) (by decide), e 16 (by decide) (by decide), e 11 (by decide) (by decide), e 12 (by decide) (by decide)]
theorem zSy.hid {S : zS} {g : zG} {X : zX} {T : zT} (h : zSy S g X T) (k i : Nat) (v : Int32) (hk : k = 0 ∨ 23 ≤ k) : zSy S g (zu X k i v) T := by
  have hn : mN (zu X k i v) = mN X := mN_zu X i v (by omega)
  have hu : ∀ d, zuse (zu X k i v) d → zuse X d := fun d hd => by unfold zuse at hd ⊢; rw [hn] at hd; exact hd
  refine ⟨fun d hd => ?_, fun c d h1 h2 z => h.inj c d (hu c h1) (hu d h2) z, h.log, h.wt, h.rd⟩
  rw [h.cell d (hu d hd)]
  congr 1
  rcases (hu d hd).cs with h1 | ⟨p, hp, h1 | h1 | h1 | h1⟩
  · by_cases hz : zrow k = true
    · exact (zSc_zu S g X (i := i) v hz (hu d hd) (by omega)).symm
    · exact absurd (decide_eq_true (by omega)) hz
  · subst h1
    rw [zSc_p, zSc_p, zpF_hid S X i v hk]
  · subst h1
    rw [zSc_t, zSc_t, znw_zu S X i v (by omega)]
  · subst h1
    rw [zSc_l, zSc_l]
  · subst h1
    rw [zSc_k, zSc_k]
def zro2 (o : Option Nat) : Int32 := match o with | none => -1 | some i => nI i
theorem mKc_1 {X : zX} {x : Int32} (k : Int32) (h : mIs X x = false) : mKc X x k = 1 := by unfold mKc; rw [if_pos h]
theorem mKc_2 {X : zX} {x k : Int32} (h : mIs X x = true) (h2 : ¬ X 2 x.toNatClampNeg = k) : mKc X x k = 2 := by unfold mKc; rw [if_neg (by rw [h]; decide), if_neg h2]
theorem mKc_0 {X : zX} {x k : Int32} (h : mIs X x = true) (h2 : X 2 x.toNatClampNeg = k) : mKc X x k = 0 := by unfold mKc; rw [if_neg (by rw [h]; decide), if_pos h2]
theorem zpF_s (S : zS) (X : zX) (k r i : Nat) (v : Int32) (h : (k, r) ∈ [(7, 6), (8, 7), (9, 8), (10, 9), (11, 10), (12, 18), (13, 19), (14, 13), (15, 14), (16, 15), (18, 11), (19, 12)]) : (zpF S X i).set k (.int v) = zpF S (zu X r i v) i := by
  simp only [List.mem_cons, List.not_mem_nil, or_false, Prod.mk.injEq] at h
  rcases h with ⟨rfl, rfl⟩ | ⟨rfl, rfl⟩ | ⟨rfl, rfl⟩ | ⟨rfl, rfl⟩ | ⟨rfl, rfl⟩ | ⟨rfl, rfl⟩ | ⟨rfl, rfl⟩ | ⟨rfl, rfl⟩ | ⟨rfl, rfl⟩ | ⟨rfl, rfl⟩ | ⟨rfl, rfl⟩ | ⟨rfl, rfl⟩ <;> simp [zpF, zu]
