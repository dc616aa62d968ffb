/-! THE REFERENCE'S WORLD: X k i is the i-th element of the array in field k; a scalar field k is X k 0. -/
abbrev zX : Type := Nat → Nat → Int32
def zu (X : zX) (k i : Nat) (v : Int32) : zX := fun k' i' => if k' = k ∧ i' = i then v else X k' i'
theorem zu_s (X : zX) (k i : Nat) (v : Int32) : zu X k i v k i = v := by simp [zu]
theorem zu_n (X : zX) (k i : Nat) (v : Int32) {k' i' : Nat} (h : ¬ (k' = k ∧ i' = i)) : zu X k i v k' i' = X k' i' := by simp [zu, h]
theorem zu_r (X : zX) (k i : Nat) (v : Int32) (h : X k i = v) : zu X k i v = X := by
  funext a b
  unfold zu
  split
  · next q => rw [q.1, q.2, h]
  · rfl
theorem zu_row (X : zX) (k i : Nat) (v : Int32) : zu X k i v k = va_up (X k) i v := by funext j; simp [zu, va_up]
theorem zu_row_ne (X : zX) {k k' : Nat} (i : Nat) (v : Int32) (h : k' ≠ k) : zu X k i v k' = X k' := by funext j; simp [zu, h]
theorem zu_zu (X : zX) (k i : Nat) (v w : Int32) : zu (zu X k i v) k i w = zu X k i w := by funext a b; unfold zu; split <;> rfl
/-- a field of the reference that is an array; one of booleans; how long it is -/
def zma (k : Nat) : Bool := decide (2 ≤ k ∧ k ≤ 32 ∧ k ≠ 23 ∧ k ≠ 26)
def zmz (k : Nat) : Bool := decide ((9 ≤ k ∧ k ≤ 12) ∨ k = 17)
def zml (k : Nat) : Nat := if 20 ≤ k ∧ k ≤ 22 then 5 else if k = 24 ∨ k = 25 then 4000 else if k = 27 ∨ k = 29 ∨ k = 30 then 8 else if k = 31 then 3 else if k = 32 then 12 else 60
def zmF (ma : Nat → Nat) (X : zX) : List Value := [.int (X 0 0), .int (X 1 0), .ref (ma 2), .ref (ma 3), .ref (ma 4), .ref (ma 5), .ref (ma 6), .ref (ma 7), .ref (ma 8), .ref (ma 9), .ref (ma 10), .ref (ma 11), .ref (ma 12), .ref (ma 13), .ref (ma 14), .ref (ma 15), .ref (ma 16), .ref (ma 17), .ref (ma 18), .ref (ma 19), .ref (ma 20), .ref (ma 21), .ref (ma 22), .int (X 23 0), .ref (ma 24), .ref (ma 25), .int (X 26 0), .ref (ma 27), .ref (ma 28), .ref (ma 29), .ref (ma 30), .ref (ma 31), .ref (ma 32)]
def zmE (g : zG) (X : zX) (k : Nat) : va_E := if zmz k = true then zZ g (zml k) (X k) else zI g (zml k) (X k)
def zMo (g : zG) (mo : Nat) (ma : Nat → Nat) (X : zX) (T : zT) : Prop :=
  T mo = some (.inl (zo 2 (zmF ma X))) ∧ (∀ k, zma k = true → T (ma k) = some (.inl (zmE g X k))) ∧ ∀ j k, zma j = true → zma k = true → ma j = ma k → j = k
/-- the heap holds the reference in the state X -/
def zMX (g : zG) (A : Nat → Prop) (mo : Nat) (ma : Nat → Nat) (X : zX) (H : Heap) : Prop := ∃ T, zTH g A T H ∧ zMo g mo ma X T
theorem zMo.ne {g : zG} {mo : Nat} {ma : Nat → Nat} {X : zX} {T : zT} (h : zMo g mo ma X T) {k : Nat} (hk : zma k = true) : ma k ≠ mo := by
  intro q
  have h1 := h.2.1 k hk
  rw [q, h.1] at h1
  have h2 := Sum.inl.inj (Option.some.inj h1)
  unfold zmE at h2
  split at h2 <;> cases h2
theorem zMo.row {g : zG} {mo : Nat} {ma : Nat → Nat} {X : zX} {T : zT} (h : zMo g mo ma X T) (k i : Nat) (v : Int32) (hk : zma k = true) {e : va_E} (he : e = zmE g (zu X k i v) k) : zMo g mo ma (zu X k i v) (va_up T (ma k) (some (.inl e))) := by
  subst he
  refine ⟨?_, fun j hj => ?_, h.2.2⟩
  · rw [va_up_ne _ _ (Ne.symm (h.ne hk)), h.1]
    have hs : ∀ j, j ≠ k → zu X k i v j 0 = X j 0 := fun j hj => zu_n _ _ _ _ (fun q => hj q.1)
    have h0 : (0 : Nat) ≠ k := fun q => by rw [← q] at hk; exact absurd hk (by decide)
    have h1 : (1 : Nat) ≠ k := fun q => by rw [← q] at hk; exact absurd hk (by decide)
    have h2 : (23 : Nat) ≠ k := fun q => by rw [← q] at hk; exact absurd hk (by decide)
    have h3 : (26 : Nat) ≠ k := fun q => by rw [← q] at hk; exact absurd hk (by decide)
    unfold zmF
    rw [hs 0 h0, hs 1 h1, hs 23 h2, hs 26 h3]
  · by_cases q : j = k
    · subst q; rw [va_up_self]
    · rw [va_up_ne _ _ (fun z => q (h.2.2 j k hj hk z)), h.2.1 j hj]
      unfold zmE
      rw [zu_row_ne _ _ _ q]
theorem zMo.sca {g : zG} {mo : Nat} {ma : Nat → Nat} {X : zX} {T : zT} (h : zMo g mo ma X T) (k : Nat) (v : Int32) (hk : zma k = false) {fs : List Value} (hf : fs = zmF ma (zu X k 0 v)) : zMo g mo ma (zu X k 0 v) (va_up T mo (some (.inl (zo 2 fs)))) := by
  subst hf
  refine ⟨by rw [va_up_self], fun j hj => ?_, h.2.2⟩
  rw [va_up_ne _ _ (h.ne hj), h.2.1 j hj]
  unfold zmE
  rw [zu_row_ne _ _ _ (fun q => by rw [q, hk] at hj; cases hj)]
section ZX
variable {p : Program} {l : Launch} {e : Env} {R : Room} {s : State} {m : MethodId} {args : Array Value} {below : List Frame} {meth : Method} {c : Code} {H : Heap} {locs : List Loc} {cells slots : Nat} {Q : State → Prop}
variable {cc : ByteArray} {pc : Nat} {ls : Array Slot} {rest : List Value} {g : zG} {A : Nat → Prop} {mo : Nat} {ma : Nat → Nat} {X : zX} {index : Nat}
theorem zx_recv (hK : zK g A s) (hX : zMX g A mo ma X H) : ∃ cell : Cell, H[mo]? = some cell ∧ cell.vm.isStatics = false ∧ s.vm.findClass RX3 = some cell.cls := by
  obtain ⟨T, hT, hM⟩ := hX
  exact zt_recv hK.1 hT hM.1 (r := (RX3, TX3, 33)) rfl
theorem zx_get (hexec : p.tables.exec = Jvm.exec) (hb : c.code = cc) (hown : s.vm.findClass RX3 = some m.cls) (hts : ∀ w ∈ lw_all, w.before args s = true) (hK : zK g A s) (hX : zMX g A mo ma X H) (k : Nat) (hk : k < 33) (hq : Cond.fieldLink RX3 index RX3 (TX3 k).2.1 (TX3 k).2.2.1 ∈ lw_all) (hsame : (TX3 k).1 = RX3) {v : Value} (hv : (zmF ma X)[k]? = some v) (hdg : decode cc pc = .ok (.getfield index, 3))
    (kk : W p l e R s m args below meth c H locs cells slots Q (F0 m (pc + 3) ls (v :: rest))) : W p l e R s m args below meth c H locs cells slots Q (F0 m pc ls (.ref mo :: rest)) := by
  obtain ⟨T, hT, hM⟩ := hX
  exact zt_get hexec hb hts in_X3 hown hK.1 hT hM.1 rfl k hk (hts _ hq) (fun _ h => by rw [← hsame]; exact h) hv hdg kk
theorem zx_put (hexec : p.tables.exec = Jvm.exec) (hb : c.code = cc) (hown : s.vm.findClass RX3 = some m.cls) (hts : ∀ w ∈ lw_all, w.before args s = true) (hK : zK g A s) (hX : zMX g A mo ma X H) (hS : va_S A s.heap H locs) (k : Nat) (hk : k < 33) (hka : zma k = false) (hq : Cond.fieldLink RX3 index RX3 (TX3 k).2.1 (TX3 k).2.2.1 ∈ lw_all) (hsame : (TX3 k).1 = RX3) (hfin : (TX3 k).2.2.2 = false) (hd : parseFieldDescriptor (TX3 k).2.2.1 = some .int) {x : Int32} (hf : (zmF ma X).set k (.int x) = zmF ma (zu X k 0 x)) (hdg : decode cc pc = .ok (.putfield index, 3))
    (kk : ∀ (H1 : Heap) (locs1 : List Loc), zMX g A mo ma (zu X k 0 x) H1 → va_S A s.heap H1 locs1 → W p l e R s m args below meth c H1 locs1 cells slots Q (F0 m (pc + 3) ls rest)) : W p l e R s m args below meth c H locs cells slots Q (F0 m pc ls (.int x :: .ref mo :: rest)) := by
  obtain ⟨T, hT, hM⟩ := hX
  exact zt_put hexec hb hts in_X3 tyX3 tyX3_ok nmX3 hown hK.1 hT hS hM.1 rfl k hk (hts _ hq) (fun _ h => by rw [← hsame]; exact h) hfin hd rfl rfl (show k < 33 from hk) hdg (fun H1 locs1 hT1 hS1 => kk H1 locs1 ⟨_, hT1, hM.sca k x hka hf⟩ hS1)
theorem zx_ld (hexec : p.tables.exec = Jvm.exec) (hb : c.code = cc) (hK : zK g A s) (hX : zMX g A mo ma X H) (k : Nat) (hka : zma k = true) (hkz : zmz k = false) {n i : Nat} (hn : zml k = n) (hi : i < n) (hdg : decode cc pc = .ok (.iaload, 1))
    (kk : W p l e R s m args below meth c H locs cells slots Q (F0 m (pc + 1) ls (.int (X k i) :: rest))) : W p l e R s m args below meth c H locs cells slots Q (F0 m pc ls (.int (nI i) :: .ref (ma k) :: rest)) := by
  obtain ⟨T, hT, hM⟩ := hX
  have h1 := hM.2.1 k hka
  unfold zmE at h1
  rw [if_neg (by rw [hkz]; decide)] at h1
  have hb1 : zml k < 2 ^ 31 := by unfold zml; repeat (first | split | omega)
  exact zt_ild hexec hb hK.1 hT h1 (by rw [hn]; exact hi) hb1 hdg kk
theorem zx_ldz (hexec : p.tables.exec = Jvm.exec) (hb : c.code = cc) (hK : zK g A s) (hX : zMX g A mo ma X H) (k : Nat) (hka : zma k = true) (hkz : zmz k = true) {n i : Nat} (hn : zml k = n) (hi : i < n) (hdg : decode cc pc = .ok (.baload, 1))
    (kk : W p l e R s m args below meth c H locs cells slots Q (F0 m (pc + 1) ls (.int (X k i) :: rest))) : W p l e R s m args below meth c H locs cells slots Q (F0 m pc ls (.int (nI i) :: .ref (ma k) :: rest)) := by
  obtain ⟨T, hT, hM⟩ := hX
  have h1 := hM.2.1 k hka
  unfold zmE at h1
  rw [if_pos hkz] at h1
  have hb1 : zml k < 2 ^ 31 := by unfold zml; repeat (first | split | omega)
  exact zt_zld hexec hb hK.1 hT h1 (by rw [hn]; exact hi) hb1 hdg kk
theorem zx_st (hexec : p.tables.exec = Jvm.exec) (hb : c.code = cc) (hK : zK g A s) (hX : zMX g A mo ma X H) (hS : va_S A s.heap H locs) (k : Nat) (hka : zma k = true) (hkz : zmz k = false) {n i : Nat} {x : Int32} (hn : zml k = n) (hi : i < n) (hdg : decode cc pc = .ok (.iastore, 1))
    (kk : ∀ (H1 : Heap) (locs1 : List Loc), zMX g A mo ma (zu X k i x) H1 → va_S A s.heap H1 locs1 → W p l e R s m args below meth c H1 locs1 cells slots Q (F0 m (pc + 1) ls rest)) : W p l e R s m args below meth c H locs cells slots Q (F0 m pc ls (.int x :: .int (nI i) :: .ref (ma k) :: rest)) := by
  obtain ⟨T, hT, hM⟩ := hX
  have h1 := hM.2.1 k hka
  unfold zmE at h1
  rw [if_neg (by rw [hkz]; decide)] at h1
  have hb1 : zml k < 2 ^ 31 := by unfold zml; repeat (first | split | omega)
  exact zt_ist hexec hb hK.1 hT hS h1 (by rw [hn]; exact hi) hb1 hdg (fun H1 locs1 hT1 hS1 => kk H1 locs1 ⟨_, hT1, hM.row k i x hka (by unfold zmE; rw [if_neg (by rw [hkz]; decide), zu_row])⟩ hS1)
theorem zx_stz (hexec : p.tables.exec = Jvm.exec) (hb : c.code = cc) (hK : zK g A s) (hX : zMX g A mo ma X H) (hS : va_S A s.heap H locs) (k : Nat) (hka : zma k = true) (hkz : zmz k = true) {n i : Nat} {x : Int32} (hn : zml k = n) (hi : i < n) (hx : x = 0 ∨ x = 1) (hdg : decode cc pc = .ok (.bastore, 1))
    (kk : ∀ (H1 : Heap) (locs1 : List Loc), zMX g A mo ma (zu X k i x) H1 → va_S A s.heap H1 locs1 → W p l e R s m args below meth c H1 locs1 cells slots Q (F0 m (pc + 1) ls rest)) : W p l e R s m args below meth c H locs cells slots Q (F0 m pc ls (.int x :: .int (nI i) :: .ref (ma k) :: rest)) := by
  obtain ⟨T, hT, hM⟩ := hX
  have h1 := hM.2.1 k hka
  unfold zmE at h1
  rw [if_pos hkz] at h1
  have hb1 : zml k < 2 ^ 31 := by unfold zml; repeat (first | split | omega)
  exact zt_zst hexec hb hK.1 hT hS h1 (by rw [hn]; exact hi) hb1 hx hdg (fun H1 locs1 hT1 hS1 => kk H1 locs1 ⟨_, hT1, hM.row k i x hka (by unfold zmE; rw [if_pos hkz, zu_row])⟩ hS1)
end ZX
/-! numbers: a truth as an int; compares of small numbers -/
def zb (b : Bool) : Int32 := if b = true then 1 else 0
theorem zb_or (b : Bool) : zb b = 0 ∨ zb b = 1 := by cases b <;> simp [zb]
theorem zb_t {b : Bool} (h : b = true) : zb b = 1 := by rw [h]; rfl
theorem zb_f {b : Bool} (h : b = false) : zb b = 0 := by rw [h]; rfl
section ZL
variable {p : Program} {l : Launch} {e : Env} {R : Room} {s : State} {m : MethodId} {args : Array Value} {below : List Frame} {meth : Method} {c : Code} {H : Heap} {locs : List Loc} {cells slots : Nat} {Q : State → Prop}
variable {cc : ByteArray} {pc : Nat} {ls : Array Slot} {rest : List Value} {tgt : Nat} {off : Int}
theorem zl_ifeq (hexec : p.tables.exec = Jvm.exec) (hb : c.code = cc) {b : Bool} (hdg : decode cc pc = .ok (.ifCond .eq off, 3)) (ht : (pc : Int) + off = (tgt : Int))
    (kt : b = false → W p l e R s m args below meth c H locs cells slots Q (F0 m tgt ls rest)) (kf : b = true → W p l e R s m args below meth c H locs cells slots Q (F0 m (pc + 3) ls rest)) : W p l e R s m args below meth c H locs cells slots Q (F0 m pc ls (.int (zb b) :: rest)) := by
  refine lv_if_eq (tgt := tgt) hexec hb hdg ht (fun h => kt ?_) (fun h => kf ?_)
  · cases b with
    | false => rfl
    | true => exact absurd h (by decide)
  · cases b with
    | true => rfl
    | false => exact absurd rfl h
theorem zl_ifne (hexec : p.tables.exec = Jvm.exec) (hb : c.code = cc) {b : Bool} (hdg : decode cc pc = .ok (.ifCond .ne off, 3)) (ht : (pc : Int) + off = (tgt : Int))
    (kt : b = true → W p l e R s m args below meth c H locs cells slots Q (F0 m tgt ls rest)) (kf : b = false → W p l e R s m args below meth c H locs cells slots Q (F0 m (pc + 3) ls rest)) : W p l e R s m args below meth c H locs cells slots Q (F0 m pc ls (.int (zb b) :: rest)) := by
  refine lv_if_ne (tgt := tgt) hexec hb hdg ht (fun h => kt ?_) (fun h => kf ?_)
  · cases b with
    | true => rfl
    | false => exact absurd rfl h
  · cases b with
    | false => rfl
    | true => exact absurd h (by decide)
theorem zl_ge {a b : Nat} (hexec : p.tables.exec = Jvm.exec) (hb : c.code = cc) (ha : a < 2 ^ 31) (hbb : b < 2 ^ 31) (hdg : decode cc pc = .ok (.if_icmp .ge off, 3)) (ht : (pc : Int) + off = (tgt : Int))
    (kt : b ≤ a → W p l e R s m args below meth c H locs cells slots Q (F0 m tgt ls rest)) (kf : a < b → W p l e R s m args below meth c H locs cells slots Q (F0 m (pc + 3) ls rest)) : W p l e R s m args below meth c H locs cells slots Q (F0 m pc ls (.int (nI b) :: .int (nI a) :: rest)) :=
  lv_icmp_ge (tgt := tgt) hexec hb hdg ht (fun h => kt ((nI_leI hbb ha).mp h)) (fun h => kf (Nat.lt_of_not_le (fun q => h ((nI_leI hbb ha).mpr q))))
theorem zl_lt {a b : Nat} (hexec : p.tables.exec = Jvm.exec) (hb : c.code = cc) (ha : a < 2 ^ 31) (hbb : b < 2 ^ 31) (hdg : decode cc pc = .ok (.if_icmp .lt off, 3)) (ht : (pc : Int) + off = (tgt : Int))
    (kt : a < b → W p l e R s m args below meth c H locs cells slots Q (F0 m tgt ls rest)) (kf : b ≤ a → W p l e R s m args below meth c H locs cells slots Q (F0 m (pc + 3) ls rest)) : W p l e R s m args below meth c H locs cells slots Q (F0 m pc ls (.int (nI b) :: .int (nI a) :: rest)) :=
  lv_icmp_lt (tgt := tgt) hexec hb hdg ht (fun h => kt ((nI_ltI ha hbb).mp h)) (fun h => kf (Nat.le_of_not_lt (fun q => h ((nI_ltI ha hbb).mpr q))))
theorem zl_le {a b : Nat} (hexec : p.tables.exec = Jvm.exec) (hb : c.code = cc) (ha : a < 2 ^ 31) (hbb : b < 2 ^ 31) (hdg : decode cc pc = .ok (.if_icmp .le off, 3)) (ht : (pc : Int) + off = (tgt : Int))
    (kt : a ≤ b → W p l e R s m args below meth c H locs cells slots Q (F0 m tgt ls rest)) (kf : b < a → W p l e R s m args below meth c H locs cells slots Q (F0 m (pc + 3) ls rest)) : W p l e R s m args below meth c H locs cells slots Q (F0 m pc ls (.int (nI b) :: .int (nI a) :: rest)) :=
  lv_icmp_le (tgt := tgt) hexec hb hdg ht (fun h => kt ((nI_leI ha hbb).mp h)) (fun h => kf (Nat.lt_of_not_le (fun q => h ((nI_leI ha hbb).mpr q))))
theorem zl_gt {a b : Nat} (hexec : p.tables.exec = Jvm.exec) (hb : c.code = cc) (ha : a < 2 ^ 31) (hbb : b < 2 ^ 31) (hdg : decode cc pc = .ok (.if_icmp .gt off, 3)) (ht : (pc : Int) + off = (tgt : Int))
    (kt : b < a → W p l e R s m args below meth c H locs cells slots Q (F0 m tgt ls rest)) (kf : a ≤ b → W p l e R s m args below meth c H locs cells slots Q (F0 m (pc + 3) ls rest)) : W p l e R s m args below meth c H locs cells slots Q (F0 m pc ls (.int (nI b) :: .int (nI a) :: rest)) :=
  lv_icmp_gt (tgt := tgt) hexec hb hdg ht (fun h => kt ((nI_ltI hbb ha).mp h)) (fun h => kf (Nat.le_of_not_lt (fun q => h ((nI_ltI hbb ha).mpr q))))
theorem zl_eq {a b : Nat} (hexec : p.tables.exec = Jvm.exec) (hb : c.code = cc) (ha : a < 2 ^ 31) (hbb : b < 2 ^ 31) (hdg : decode cc pc = .ok (.if_icmp .eq off, 3)) (ht : (pc : Int) + off = (tgt : Int))
    (kt : a = b → W p l e R s m args below meth c H locs cells slots Q (F0 m tgt ls rest)) (kf : a ≠ b → W p l e R s m args below meth c H locs cells slots Q (F0 m (pc + 3) ls rest)) : W p l e R s m args below meth c H locs cells slots Q (F0 m pc ls (.int (nI b) :: .int (nI a) :: rest)) :=
  lv_icmp_eq (tgt := tgt) hexec hb hdg ht (fun h => kt ((nI_eq ha hbb).mp h)) (fun h => kf (fun q => h ((nI_eq ha hbb).mpr q)))
theorem zl_ne {a b : Nat} (hexec : p.tables.exec = Jvm.exec) (hb : c.code = cc) (ha : a < 2 ^ 31) (hbb : b < 2 ^ 31) (hdg : decode cc pc = .ok (.if_icmp .ne off, 3)) (ht : (pc : Int) + off = (tgt : Int))
    (kt : a ≠ b → W p l e R s m args below meth c H locs cells slots Q (F0 m tgt ls rest)) (kf : a = b → W p l e R s m args below meth c H locs cells slots Q (F0 m (pc + 3) ls rest)) : W p l e R s m args below meth c H locs cells slots Q (F0 m pc ls (.int (nI b) :: .int (nI a) :: rest)) :=
  lv_icmp_ne (tgt := tgt) hexec hb hdg ht (fun h => kt (fun q => h ((nI_eq ha hbb).mpr q))) (fun h => kf ((nI_eq ha hbb).mp h))
end ZL
