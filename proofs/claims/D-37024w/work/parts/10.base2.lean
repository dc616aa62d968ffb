/-! LISTS AS CELLS; the run's surroundings; contracts' starts, calls and ends. -/
/-- the list at a: its object, its array b, its elements xs -/
def zLs (g : zG) (M : Nat → Option va_E) (a : Nat) (mu : Int32) (xs : List (Option Nat)) (b : Nat) : Prop :=
  M a = some (zo 9 [.int mu, .ref b, .int (nI xs.length)]) ∧ ∃ (cap : Nat) (f : Nat → Option Nat), M b = some (zQ g cap f) ∧ xs.length ≤ cap ∧ cap ≤ 160 ∧ (cap = 0 → b = zd0 g) ∧ ∀ j x, xs[j]? = some x → f j = x
def zTM (g : zG) (T : zT) (M : Nat → Option va_E) (bk : Nat → Nat) : Prop :=
  (∀ a e, T a = some (.inl e) → M a = some e) ∧ (∀ a mu xs, T a = some (.inr (mu, xs)) → zLs g M a mu xs (bk a)) ∧ (∀ a v, T a = some (.inr v) → T (bk a) = none) ∧
  (∀ a b v w, T a = some (.inr v) → T b = some (.inr w) → bk a = bk b → bk a ≠ zd0 g → a = b) ∧ T (zd0 g) = none
def zTH (g : zG) (A : Nat → Prop) (T : zT) (H : Heap) : Prop := ∃ (M : Nat → Option va_E) (bk : Nat → Nat), zMH g A M H ∧ zTM g T M bk
theorem zTM.has {g : zG} {T : zT} {M : Nat → Option va_E} {bk : Nat → Nat} (h : zTM g T M bk) {a : Nat} {x : zE} (ha : T a = some x) : ∃ e, M a = some e := by
  cases x with
  | inl e => exact ⟨e, h.1 a e ha⟩
  | inr w => exact ⟨_, (h.2.1 a w.1 w.2 ha).1⟩
theorem zTM.nil {g : zG} {T : zT} {M : Nat → Option va_E} {bk : Nat → Nat} (h : zTM g T M bk) {a : Nat} (ha : M a = none) : T a = none := by
  cases ht : T a with
  | none => rfl
  | some x => obtain ⟨e, he⟩ := h.has ht; rw [ha] at he; cases he
/-- an object or array rewritten -/
theorem zTM.put {g : zG} {T : zT} {M : Nat → Option va_E} {bk : Nat → Nat} (h : zTM g T M bk) {a : Nat} {e0 : va_E} (ha : T a = some (.inl e0)) (e1 : va_E) : zTM g (va_up T a (some (.inl e1))) (va_up M a (some e1)) bk := by
  obtain ⟨h1, h2, h3, h4, h5⟩ := h
  have hne : ∀ b mu xs, (va_up T a (some (.inl e1))) b = some (.inr (mu, xs)) → b ≠ a ∧ T b = some (.inr (mu, xs)) := by
    intro b mu xs hb
    by_cases q : b = a
    · subst q; rw [va_up_self] at hb; cases hb
    · rw [va_up_ne _ _ q] at hb; exact ⟨q, hb⟩
  have hbk : ∀ b v, T b = some (.inr v) → bk b ≠ a := fun b v hb q => by
    have := h3 b v hb
    rw [q, ha] at this
    cases this
  refine ⟨fun b e hb => ?_, fun b mu xs hb => ?_, fun b v hb => ?_, fun b b' v w hb hb' => ?_, ?_⟩
  · by_cases q : b = a
    · subst q; rw [va_up_self] at hb ⊢; cases hb; rfl
    · rw [va_up_ne _ _ q] at hb ⊢; exact h1 b e hb
  · obtain ⟨q, hb⟩ := hne b mu xs hb
    obtain ⟨k1, cap, f, k2, k3⟩ := h2 b mu xs hb
    exact ⟨by rw [va_up_ne _ _ q]; exact k1, cap, f, by rw [va_up_ne _ _ (hbk b _ hb)]; exact k2, k3⟩
  · obtain ⟨q, hb⟩ := hne b v.1 v.2 hb
    rw [va_up_ne _ _ (hbk b _ hb)]
    exact h3 b _ hb
  · exact h4 b b' v w (hne b v.1 v.2 hb).2 (hne b' w.1 w.2 hb').2
  · by_cases q : zd0 g = a
    · rw [← q, h5] at ha; cases ha
    · rw [va_up_ne _ _ q]; exact h5
/-- a cell that the program doesn't know yet: an object or array made -/
theorem zTM.push {g : zG} {T : zT} {M : Nat → Option va_E} {bk : Nat → Nat} (h : zTM g T M bk) {q : Nat} (hq : M q = none) (h0 : zd0 g ≠ q) (e1 : va_E) : zTM g (va_up T q (some (.inl e1))) (va_up M q (some e1)) bk := by
  have hTq := h.nil hq
  obtain ⟨h1, h2, h3, h4, h5⟩ := h
  have hne : ∀ b mu xs, (va_up T q (some (.inl e1))) b = some (.inr (mu, xs)) → b ≠ q ∧ T b = some (.inr (mu, xs)) := by
    intro b mu xs hb
    by_cases z : b = q
    · subst z; rw [va_up_self] at hb; cases hb
    · rw [va_up_ne _ _ z] at hb; exact ⟨z, hb⟩
  have hbk : ∀ b v, T b = some (.inr v) → bk b ≠ q := fun b v hb z => by
    obtain ⟨-, cap, f, k2, -⟩ := h2 b v.1 v.2 hb
    rw [z, hq] at k2
    cases k2
  refine ⟨fun b e hb => ?_, fun b mu xs hb => ?_, fun b v hb => ?_, fun b b' v w hb hb' => ?_, ?_⟩
  · by_cases z : b = q
    · subst z; rw [va_up_self] at hb ⊢; cases hb; rfl
    · rw [va_up_ne _ _ z] at hb ⊢; exact h1 b e hb
  · obtain ⟨z, hb⟩ := hne b mu xs hb
    obtain ⟨k1, cap, f, k2, k3⟩ := h2 b mu xs hb
    exact ⟨by rw [va_up_ne _ _ z]; exact k1, cap, f, by rw [va_up_ne _ _ (hbk b _ hb)]; exact k2, k3⟩
  · obtain ⟨z, hb⟩ := hne b v.1 v.2 hb
    rw [va_up_ne _ _ (hbk b _ hb)]
    exact h3 b _ hb
  · exact h4 b b' v w (hne b v.1 v.2 hb).2 (hne b' w.1 w.2 hb').2
  · rw [va_up_ne _ _ h0]; exact h5
/-- fewer cells known -/
theorem zTM.sub {g : zG} {T T' : zT} {M : Nat → Option va_E} {bk : Nat → Nat} (h : zTM g T M bk) (hs : ∀ a x, T' a = some x → T a = some x) : zTM g T' M bk := by
  obtain ⟨h1, h2, h3, h4, h5⟩ := h
  refine ⟨fun a e ha => h1 a e (hs a _ ha), fun a mu xs ha => h2 a mu xs (hs a _ ha), fun a v ha => ?_, fun a b v w ha hb => h4 a b v w (hs a _ ha) (hs b _ hb), ?_⟩
  · cases q : T' (bk a) with
    | none => rfl
    | some x => have := hs _ _ q; rw [h3 a v (hs a _ ha)] at this; cases this
  · cases q : T' (zd0 g) with
    | none => rfl
    | some x => have := hs _ _ q; rw [h5] at this; cases this
theorem zTH.sub {g : zG} {A : Nat → Prop} {T T' : zT} {H : Heap} (h : zTH g A T H) (hs : ∀ a x, T' a = some x → T a = some x) : zTH g A T' H := by
  obtain ⟨M, bk, hM, hT⟩ := h
  exact ⟨M, bk, hM, hT.sub hs⟩
theorem zTH.kept {g : zG} {A : Nat → Prop} {T : zT} {H H1 : Heap} (h : zTH g A T H) (hz : H.size ≤ H1.size) (oq : ∀ q : Nat, q < H.size → H1[q]? = H[q]?) : zTH g A T H1 := by
  obtain ⟨M, bk, hM, hT⟩ := h
  exact ⟨M, bk, hM.kept hz oq, hT⟩
/-- what others did, outside of A -/
theorem zMH.keptA {g : zG} {A B : Nat → Prop} {M : Nat → Option va_E} {H H1 : Heap} (h : zMH g A M H) (hz : H.size ≤ H1.size) (oq : ∀ q : Nat, q < H.size → ¬ B q → H1[q]? = H[q]?) (hB : ∀ q, q < H.size → B q → ¬ A q ∧ q ≠ zd0 g) : zMH g A M H1 := by
  refine ⟨fun a e ha => (h.1 a e ha).kept (oq a (h.lt ha) (fun b => ?_)), h.2.1, fun q hq => h.2.2.1 q (Nat.le_trans hz hq), h.2.2.2⟩
  obtain ⟨k1, k2⟩ := hB a (h.lt ha) b
  exact k1 (h.2.1 a e ha k2)
theorem zTH.keptA {g : zG} {A B : Nat → Prop} {T : zT} {H H1 : Heap} (h : zTH g A T H) (hz : H.size ≤ H1.size) (oq : ∀ q : Nat, q < H.size → ¬ B q → H1[q]? = H[q]?) (hB : ∀ q, q < H.size → B q → ¬ A q ∧ q ≠ zd0 g) : zTH g A T H1 := by
  obtain ⟨M, bk, hM, hT⟩ := h
  exact ⟨M, bk, hM.keptA hz oq hB, hT⟩
theorem zTH.lt {g : zG} {A : Nat → Prop} {T : zT} {H : Heap} (h : zTH g A T H) {a : Nat} {x : zE} (ha : T a = some x) : a < H.size := by
  obtain ⟨M, bk, hM, hT⟩ := h
  obtain ⟨e, he⟩ := hT.has ha
  exact hM.lt he
theorem zTH.new {g : zG} {A : Nat → Prop} {T : zT} {H : Heap} (h : zTH g A T H) : T H.size = none := by
  cases q : T H.size with
  | none => rfl
  | some x => exact absurd (h.lt q) (Nat.lt_irrefl _)
theorem zTH.own {g : zG} {A : Nat → Prop} {T : zT} {H : Heap} (h : zTH g A T H) {a : Nat} {x : zE} (ha : T a = some x) : A a := by
  obtain ⟨M, bk, hM, hT⟩ := h
  obtain ⟨e, he⟩ := hT.has ha
  refine hM.2.1 a e he (fun q => ?_)
  rw [q, hT.2.2.2.2] at ha
  cases ha
/-! the tables' words that no list carries -/
def zW (U : State) : Prop :=
  (∀ a i b n d h, Cond.fieldLinkNest a i b n d h ∈ lw_tbl → va_Nw (.fieldLinkNest a i b n d h) U) ∧ (∀ a i x h, Cond.methodLinkNest a i x h ∈ lw_tbl → va_Nw (.methodLinkNest a i x h) U) ∧
  (∀ C T, Cond.castable C T ∈ lw_tbl → va_Nw (.castable C T) U) ∧ (∀ x, Cond.declares x ∈ lw_tbl → va_Nw (.declares x) U) ∧ va_AO "java/lang/Object" U ∧
  va_Fw RX7 ⟨"WheelWorks$Test", "is", "(Ljava/lang/Object;)Z"⟩ yX7_is U ∧ va_Fw RX8 ⟨"WheelWorks$Test", "is", "(Ljava/lang/Object;)Z"⟩ yX8_is U ∧
  va_Fw RJ16 ⟨"java/util/Iterator", "hasNext", "()Z"⟩ yJ16_hasNext U ∧ va_Fw RJ16 ⟨"java/util/Iterator", "next", "()Ljava/lang/Object;"⟩ yJ16_next U ∧
  va_Nc "java/lang/IllegalArgumentException" "java/lang/IndexOutOfBoundsException" U ∧ va_Nc "java/lang/IllegalStateException" "java/lang/IndexOutOfBoundsException" U ∧ va_Nc "java/lang/IllegalStateException" "java/lang/IllegalArgumentException" U
theorem zW.warm {s U : State} (hW : s.WarmedH U.vm) (h : zW s) : zW U := by
  obtain ⟨h1, h2, h3, h4, h5, h6, h7, h8, h9, h10, h11, h12⟩ := h
  exact ⟨fun a i b n d h w => (h1 a i b n d h w).warmF hW, fun a i x h w => (h2 a i x h w).warmM hW, fun C T w => (h3 C T w).warmC hW, fun x w => (h4 x w).warmD hW, h5.moved hW.alike,
    h6.moved (by decide) hW.alike, h7.moved (by decide) hW.alike, h8.moved (by decide) hW.alike, h9.moved (by decide) hW.alike, h10.moved hW.alike, h11.moved hW.alike, h12.moved hW.alike⟩
def zSt (g : zG) (A : Nat → Prop) (U : State) (H : Heap) : Prop :=
  va_Z RJ2 "DEFAULTCAPACITY_EMPTY_ELEMENTDATA" "[Ljava/lang/Object;" (.ref (zd0 g)) A U H ∧ vx_Zq Bundle.tN "UNASSIGNED_STACK" Bundle.steD A U H ∧ vx_Zq Bundle.tN "SUPPRESSED_SENTINEL" Bundle.listD A U H
/-- the surroundings of a method, at its start -/
def zK (g : zG) (A : Nat → Prop) (U : State) : Prop := va_K g.1 zCl (zTy g) U ∧ zW U ∧ zSt g A U U.heap ∧ va_Mi "[Ljava/lang/Object;" (zmi g) U ∧ va_Dc U
theorem zK.next {g : zG} {A : Nat → Prop} {s U : State} {H : Heap} {locs : List Loc} (h : zK g A s) (hS : va_S A s.heap H locs) (hU : U.heap = H) (hW : s.WarmedH U.vm) : zK g A U := by
  obtain ⟨h1, h2, ⟨h3, h4, h5⟩, h6, h7⟩ := h
  have hq : ∀ a : Nat, a < s.heap.size → ¬ A a → U.heap[a]? = s.heap[a]? := fun a x y => by rw [hU]; exact hS.2.1 a x y
  exact ⟨h1.moved hW.alike, h2.warm hW, ⟨(h3.kept hq).moved hW.alike, (h4.kept hq).moved hW.alike, (h5.kept hq).moved hW.alike⟩, h6.moved hW.alike, h7.moved hW.alike⟩
theorem zK.narrow {g : zG} {A B : Nat → Prop} {s : State} (h : zK g A s) (hAB : ∀ q, B q → A q) : zK g B s :=
  ⟨h.1, h.2.1, ⟨h.2.2.1.1.narrow hAB, h.2.2.1.2.1.narrow hAB, h.2.2.1.2.2.narrow hAB⟩, h.2.2.2⟩
theorem zK.blind {g : zG} {A : Nat → Prop} {U : State} (h : zK g A U) (f : JFrame) (mk : MethodId) (a : Array Value) : zK g A (U.calling f mk a) := by
  exact h.next (s := U) (U := U.calling f mk a) (locs := []) va_S.rf rfl (State.WarmedH.refl U)
/-- a contract's start: the arguments, the surroundings, the heap -/
def zP (av : List Value) (g : zG) (A : Nat → Prop) (B : Heap → Prop) : Array Value → State → Prop := va_Pc av (fun U => zK g A U ∧ B U.heap)
theorem zP.blind {av : List Value} {g : zG} {A : Nat → Prop} {B : Heap → Prop} : FrameBlind (zP av g A B) := fun a _ f mk h => ⟨h.1, h.2.1.blind f mk a, h.2.2⟩
theorem zP.S {av : List Value} {g : zG} {A A1 : Nat → Prop} {B : Heap → Prop} {s : State} {H : Heap} {locs : List Loc} (hK : zK g A s) (hAA : ∀ q, A1 q → A q) (hS : va_S A s.heap H locs) (hB : B H) : PreS s H (zP av g A1 B) av :=
  ⟨zP.blind, fun _ hU hW => ⟨rfl, (hK.next hS hU hW).narrow hAA, by rw [hU]; exact hB⟩⟩
theorem zP.V {As : List Value} {b : Nat} {C : String} {g : zG} {A A1 : Nat → Prop} {B : Heap → Prop} {s : State} {H : Heap} {locs : List Loc} (hK : zK g A s) (hAA : ∀ q, A1 q → A q) (hS : va_S A s.heap H locs) (hB : B H) (hr : ∃ cell : Cell, H[b]? = some cell ∧ cell.vm.isStatics = false ∧ s.vm.findClass C = some cell.cls) : PreV s H C b (zP (.ref b :: As) g A1 B) As :=
  ⟨zP.blind, hr, fun _ hU hW => ⟨rfl, (hK.next hS hU hW).narrow hAA, by rw [hU]; exact hB⟩⟩
/-- the room of a method of depth d -/
abbrev zR (d mc ms : Nat) : Room := { frames := d, cells := mc, slots := ms, locals := 32 * d }
theorem zR.ok {d d' mc ms mc' ms' maxL : Nat} (h : d + 1 ≤ d') (hL : maxL ≤ 13) : (zR d mc ms).frames + 1 ≤ (zR d' mc' ms').frames ∧ 8 + (maxL + 11) + (zR d mc ms).locals ≤ (zR d' mc' ms').locals := ⟨h, by show 8 + (maxL + 11) + 32 * d ≤ 32 * d'; omega⟩
/-- what a method's name owes: no handle, so many parameters -/
abbrev zN (y : MethodName) (n : Nat) : Prop := y.cls ≠ "java/lang/invoke/MethodHandle" ∧ y.cls ≠ "java/lang/invoke/VarHandle" ∧ (parseMethodDescriptor y.desc).map (fun d => d.parameters.length) = some n
section ZC
variable {p : Program} {l : Launch} {e : Env} {s : State} {m : MethodId} {args : Array Value} {below : List Frame} {meth : Method} {c : Code} {H : Heap} {locs : List Loc} {cells slots : Nat} {Q : State → Prop}
variable {cc : ByteArray} {pc : Nat} {ls : Array Slot} {rest : List Value} {g : zG} {A A1 : Nat → Prop} {B0 : Heap → Prop}
variable {y : MethodName} {bytes : ByteArray} {maxL nL mc ms n index d d' mc' ms' : Nat} {ret : Option FieldType} {Qc : Array Value → State → Outcome → State → Prop} {own C : String} {b : Addr} {As : List Value}
theorem zr_V (CF : CallFix p m c cc nL s args lw_all own) (hM : Met l y (ws_ y bytes maxL ret) (zR d mc ms) (zP (.ref b :: As) g A1 B0) Qc mc ms A1) (hN : zN y n) (hG : GoodIn lw_all (wsV own index C y (ws_ y bytes maxL ret))) (hC : y.cls = C) (hd : d + 1 ≤ d') (hL : maxL ≤ 13) (hK : zK g A s) (hAA : ∀ q, A1 q → A q) (hS : va_S A s.heap H locs) (hB : B0 H)
    (hr : ∃ cell : Cell, H[b]? = some cell ∧ cell.vm.isStatics = false ∧ s.vm.findClass C = some cell.cls) (hn : As.length = n) (hsize : ls.size = nL) (hW : (rest.map fun v => v.category).sum ≤ 8) (hdg : decode cc pc = .ok (.invokevirtual index, 3)) (hf : cells + mc ≤ mc' ∧ slots + ms ≤ ms') :
    va_Run p l e (zR d' mc' ms') s m args below meth c H locs cells slots mc ms (F0 m pc ls (As.reverse ++ .ref b :: rest)) rest (Qc (Value.ref b :: As).toArray) A1 :=
  va_runV CF hM (cwV n CF.2.2.2.2 hG rfl rfl rfl ⟨hC, hN⟩ (zR.ok hd hL)) (zP.V hK hAA hS hB hr) rfl hn hsize rfl (by show 2 * (F0 m pc ls rest).monitorRoom + _ ≤ 8; exact lv_room hW) hdg hf
theorem zr_S (CF : CallFix p m c cc nL s args lw_all own) (hM : Met l y (ws_ y bytes maxL ret) (zR d mc ms) (zP As g A1 B0) Qc mc ms A1) (hN : zN y n) (hG : GoodIn lw_all (va_wsS own index y (ws_ y bytes maxL ret))) (hd : d + 1 ≤ d') (hL : maxL ≤ 13) (hK : zK g A s) (hAA : ∀ q, A1 q → A q) (hS : va_S A s.heap H locs) (hB : B0 H)
    (hn : As.length = n) (hsize : ls.size = nL) (hW : (rest.map fun v => v.category).sum ≤ 8) (hdg : decode cc pc = .ok (.invokestatic index, 3)) (hf : cells + mc ≤ mc' ∧ slots + ms ≤ ms') :
    va_Run p l e (zR d' mc' ms') s m args below meth c H locs cells slots mc ms (F0 m pc ls (As.reverse ++ rest)) rest (Qc As.toArray) A1 :=
  va_runS CF hM (va_cwS n CF.2.2.2.2 hG rfl rfl rfl hN (zR.ok hd hL)) (zP.S hK hAA hS hB) rfl hn hsize rfl (by show 2 * (F0 m pc ls rest).monitorRoom + _ ≤ 8; exact lv_room hW) hdg hf
theorem zr_I (CF : CallFix p m c cc nL s args lw_all own) (hM : Met l y (ws_ y bytes maxL none) (zR d mc ms) (zP (.ref b :: As) g A1 B0) Qc mc ms A1) (hN : zN y n) (hcw : Cond.code y bytes maxL none ∈ lw_all) (hini : Cond.initialized y.cls ∈ lw_all) (hl : Cond.methodLink own index y ∈ lw_all) (hin : Cond.instanceMethod y ∈ lw_all) (hy1 : y.name = "<init>") (hd : d + 1 ≤ d') (hL : maxL ≤ 13) (hK : zK g A s) (hAA : ∀ q, A1 q → A q) (hS : va_S A s.heap H locs) (hB : B0 H)
    (hn : As.length = n) (hsize : ls.size = nL) (hW : (rest.map fun v => v.category).sum ≤ 8) (hdg : decode cc pc = .ok (.invokespecial index, 3)) (hf : cells + mc ≤ mc' ∧ slots + ms ≤ ms') :
    va_Run p l e (zR d' mc' ms') s m args below meth c H locs cells slots mc ms (F0 m pc ls (As.reverse ++ .ref b :: rest)) rest (Qc (Value.ref b :: As).toArray) A1 :=
  va_runI CF hM (cwI n CF.2.2.2.2 (lw_meth hcw) rfl rfl rfl (CF.2.2.2.2 _ hini) (CF.2.2.2.2 _ hl) (CF.2.2.2.2 _ hin) hy1 hN (zR.ok hd hL)) (zP.S hK hAA hS hB) rfl hn hsize rfl (by show 2 * (F0 m pc ls rest).monitorRoom + _ ≤ 8; exact lv_room hW) hdg hf
theorem zr_VN {host : String} (CF : CallFix p m c cc nL s args lw_all own) (hM : Met l y (ws_ y bytes maxL ret) (zR d mc ms) (zP (.ref b :: As) g A1 B0) Qc mc ms A1) (hN : zN y n) (hcw : Cond.code y bytes maxL ret ∈ lw_all) (hini : Cond.initialized y.cls ∈ lw_all) (hl : Cond.methodLinkNest own index y host ∈ lw_tbl) (hin : Cond.instanceMethod y ∈ lw_all) (hse : Cond.selects C y y ∈ lw_all) (hd : d + 1 ≤ d') (hL : maxL ≤ 13) (hK : zK g A s) (hAA : ∀ q, A1 q → A q) (hS : va_S A s.heap H locs) (hB : B0 H)
    (hr : ∃ cell : Cell, H[b]? = some cell ∧ cell.vm.isStatics = false ∧ s.vm.findClass C = some cell.cls) (hn : As.length = n) (hsize : ls.size = nL) (hW : (rest.map fun v => v.category).sum ≤ 8) (hdg : decode cc pc = .ok (.invokevirtual index, 3)) (hf : cells + mc ≤ mc' ∧ slots + ms ≤ ms') :
    va_Run p l e (zR d' mc' ms') s m args below meth c H locs cells slots mc ms (F0 m pc ls (As.reverse ++ .ref b :: rest)) rest (Qc (Value.ref b :: As).toArray) A1 :=
  va_runVN CF hM ⟨va_cnB n CF.2.2.2.2 (lw_meth hcw) rfl rfl rfl (hK.2.1.2.1 _ _ _ _ hl) (CF.2.2.2.2 _ hini) hN (zR.ok hd hL), CF.2.2.2.2 _ hin, CF.2.2.2.2 _ hse⟩ (zP.V hK hAA hS hB hr) rfl hn hsize rfl (by show 2 * (F0 m pc ls rest).monitorRoom + _ ≤ 8; exact lv_room hW) hdg hf
theorem zr_SN {host : String} (CF : CallFix p m c cc nL s args lw_all own) (hM : Met l y (ws_ y bytes maxL ret) (zR d mc ms) (zP As g A1 B0) Qc mc ms A1) (hN : zN y n) (hcw : Cond.code y bytes maxL ret ∈ lw_all) (hini : Cond.initialized y.cls ∈ lw_all) (hl : Cond.methodLinkNest own index y host ∈ lw_tbl) (hst : Cond.static y ∈ lw_all) (hd : d + 1 ≤ d') (hL : maxL ≤ 13) (hK : zK g A s) (hAA : ∀ q, A1 q → A q) (hS : va_S A s.heap H locs) (hB : B0 H)
    (hn : As.length = n) (hsize : ls.size = nL) (hW : (rest.map fun v => v.category).sum ≤ 8) (hdg : decode cc pc = .ok (.invokestatic index, 3)) (hf : cells + mc ≤ mc' ∧ slots + ms ≤ ms') :
    va_Run p l e (zR d' mc' ms') s m args below meth c H locs cells slots mc ms (F0 m pc ls (As.reverse ++ rest)) rest (Qc As.toArray) A1 :=
  va_runSN CF hM ⟨va_cnB n CF.2.2.2.2 (lw_meth hcw) rfl rfl rfl (hK.2.1.2.1 _ _ _ _ hl) (CF.2.2.2.2 _ hini) hN (zR.ok hd hL), CF.2.2.2.2 _ hst, trivial⟩ (zP.S hK hAA hS hB) rfl hn hsize rfl (by show 2 * (F0 m pc ls rest).monitorRoom + _ ≤ 8; exact lv_room hW) hdg hf
theorem zr_IN {host : String} (CF : CallFix p m c cc nL s args lw_all own) (hM : Met l y (ws_ y bytes maxL none) (zR d mc ms) (zP (.ref b :: As) g A1 B0) Qc mc ms A1) (hN : zN y n) (hcw : Cond.code y bytes maxL none ∈ lw_all) (hini : Cond.initialized y.cls ∈ lw_all) (hl : Cond.methodLinkNest own index y host ∈ lw_tbl) (hin : Cond.instanceMethod y ∈ lw_all) (hy1 : y.name = "<init>") (hd : d + 1 ≤ d') (hL : maxL ≤ 13) (hK : zK g A s) (hAA : ∀ q, A1 q → A q) (hS : va_S A s.heap H locs) (hB : B0 H)
    (hn : As.length = n) (hsize : ls.size = nL) (hW : (rest.map fun v => v.category).sum ≤ 8) (hdg : decode cc pc = .ok (.invokespecial index, 3)) (hf : cells + mc ≤ mc' ∧ slots + ms ≤ ms') :
    va_Run p l e (zR d' mc' ms') s m args below meth c H locs cells slots mc ms (F0 m pc ls (As.reverse ++ .ref b :: rest)) rest (Qc (Value.ref b :: As).toArray) A1 :=
  va_runIN CF hM ⟨va_cnB n CF.2.2.2.2 (lw_meth hcw) rfl rfl rfl (hK.2.1.2.1 _ _ _ _ hl) (CF.2.2.2.2 _ hini) hN (zR.ok hd hL), hy1, CF.2.2.2.2 _ hin⟩ (zP.S hK hAA hS hB) rfl hn hsize rfl (by show 2 * (F0 m pc ls rest).monitorRoom + _ ≤ 8; exact lv_room hW) hdg hf
theorem zc_i {S : Type} {R : Room} {st0 : List Value} {a : Array Value} {post : Int32 → S → Prop} {BB : S → Heap → Prop} (hr : va_Run p l e R s m args below meth c H locs cells slots mc ms (F0 m pc ls st0) rest (va_Qi post (fun u t => BB u t.heap) A1 a) A1) (hS : va_S A s.heap H locs) (hAA : ∀ q, A1 q → A q)
    (kk : ∀ (r : Int32) (u : S) (H1 : Heap) (locs1 : List Loc), post r u → BB u H1 → H.size ≤ H1.size → (∀ q : Nat, q < H.size → ¬ A1 q → H1[q]? = H[q]?) → va_S A s.heap H1 locs1 → W p l e R s m args below meth c H1 locs1 (cells + mc) (slots + ms) Q (F0 m (pc + 3) ls (.int r :: rest))) : W p l e R s m args below meth c H locs cells slots Q (F0 m pc ls st0) :=
  va_calli hr hS (fun q _ h => hAA q h) hAA (fun r u t H1 locs1 ht _ hp hB hz hk hS1 => kk r u H1 locs1 hp (by rw [← ht]; exact hB) hz hk hS1)
theorem zc_v {S : Type} {R : Room} {st0 : List Value} {a : Array Value} {post : S → Prop} {BB : S → Heap → Prop} (hr : va_Run p l e R s m args below meth c H locs cells slots mc ms (F0 m pc ls st0) rest (va_Qv post (fun u t => BB u t.heap) A1 a) A1) (hS : va_S A s.heap H locs) (hAA : ∀ q, A1 q → A q)
    (kk : ∀ (u : S) (H1 : Heap) (locs1 : List Loc), post u → BB u H1 → H.size ≤ H1.size → (∀ q : Nat, q < H.size → ¬ A1 q → H1[q]? = H[q]?) → va_S A s.heap H1 locs1 → W p l e R s m args below meth c H1 locs1 (cells + mc) (slots + ms) Q (F0 m (pc + 3) ls rest)) : W p l e R s m args below meth c H locs cells slots Q (F0 m pc ls st0) :=
  va_callv hr hS (fun q _ h => hAA q h) hAA (fun u t H1 locs1 ht _ hp hB hz hk hS1 => kk u H1 locs1 hp (by rw [← ht]; exact hB) hz hk hS1)
theorem zc_q {S : Type} {R : Room} {st0 : List Value} {a : Array Value} {post : Option Nat → S → Prop} {BB : S → Heap → Prop} (hr : va_Run p l e R s m args below meth c H locs cells slots mc ms (F0 m pc ls st0) rest (va_Qq post (fun u t => BB u t.heap) A1 a) A1) (hS : va_S A s.heap H locs) (hAA : ∀ q, A1 q → A q)
    (kk : ∀ (r : Option Nat) (u : S) (H1 : Heap) (locs1 : List Loc), post r u → BB u H1 → H.size ≤ H1.size → (∀ q : Nat, q < H.size → ¬ A1 q → H1[q]? = H[q]?) → va_S A s.heap H1 locs1 → W p l e R s m args below meth c H1 locs1 (cells + mc) (slots + ms) Q (F0 m (pc + 3) ls (va_rf r :: rest))) : W p l e R s m args below meth c H locs cells slots Q (F0 m pc ls st0) :=
  va_callq hr hS (fun q _ h => hAA q h) hAA (fun r u t H1 locs1 ht _ hp hB hz hk hS1 => kk r u H1 locs1 hp (by rw [← ht]; exact hB) hz hk hS1)
/-! ends -/
theorem ze_i {S : Type} {post : Int32 → S → Prop} {BB : S → Heap → Prop} {v : Int32} {R : Room} (hexec : p.tables.exec = Jvm.exec) (hb : c.code = cc) (hr : meth.sig.returnType = some .int) (hlocks : meth.locks = false) (hS : va_S A s.heap H locs) (hdg : decode cc pc = .ok (.ireturn, 1)) (hc : cells ≤ mc) (hs : slots ≤ ms) (u : S) (hp : post v u) (hB : BB u H) :
    W p l e R s m args below meth c H locs cells slots (MQ below (va_Qi post (fun u t => BB u t.heap) A) args s mc ms A) (F0 m pc ls [.int v]) :=
  W.widen (k := mc) (n := ms) hc hs (W.iret hexec hb hr (fun t ht _ => ⟨⟨v, u, rfl, hp, by subst ht; exact hB⟩, hS.F ht⟩) hS.2.2 hdg hlocks)
theorem ze_z {S : Type} {post : Int32 → S → Prop} {BB : S → Heap → Prop} {v : Int32} {R : Room} (hexec : p.tables.exec = Jvm.exec) (hb : c.code = cc) (hr : meth.sig.returnType = some .boolean) (hlocks : meth.locks = false) (hS : va_S A s.heap H locs) (hdg : decode cc pc = .ok (.ireturn, 1)) (hc : cells ≤ mc) (hs : slots ≤ ms) (hv : v = 0 ∨ v = 1) (u : S) (hp : post v u) (hB : BB u H) :
    W p l e R s m args below meth c H locs cells slots (MQ below (va_Qi post (fun u t => BB u t.heap) A) args s mc ms A) (F0 m pc ls [.int v]) :=
  W.widen (k := mc) (n := ms) hc hs (W.zret hexec hb hr (zm_nz hv) (fun t ht _ => ⟨⟨v, u, rfl, hp, by subst ht; exact hB⟩, hS.F ht⟩) hS.2.2 hdg hlocks)
theorem ze_v {S : Type} {post : S → Prop} {BB : S → Heap → Prop} {R : Room} (hexec : p.tables.exec = Jvm.exec) (hb : c.code = cc) (hr : meth.sig.returnType = none) (hlocks : meth.locks = false) (hS : va_S A s.heap H locs) (hdg : decode cc pc = .ok (.return_, 1)) (hc : cells ≤ mc) (hs : slots ≤ ms) (u : S) (hp : post u) (hB : BB u H) :
    W p l e R s m args below meth c H locs cells slots (MQ below (va_Qv post (fun u t => BB u t.heap) A) args s mc ms A) (F0 m pc ls []) :=
  W.widen (k := mc) (n := ms) hc hs (W.vret hexec hb hr (fun t ht _ => ⟨⟨u, rfl, hp, by subst ht; exact hB⟩, hS.F ht⟩) hS.2.2 hdg hlocks)
theorem ze_q {S : Type} {post : Option Nat → S → Prop} {BB : S → Heap → Prop} {v : Option Nat} {R : Room} {rt : FieldType} (hexec : p.tables.exec = Jvm.exec) (hb : c.code = cc) (hr : meth.sig.returnType = some rt) (hrt : (∃ n, rt = .object n) ∨ ∃ t, rt = .array t) (hlocks : meth.locks = false) (hS : va_S A s.heap H locs) (hdg : decode cc pc = .ok (.areturn, 1)) (hc : cells ≤ mc) (hs : slots ≤ ms) (u : S) (hp : post v u) (hB : BB u H) :
    W p l e R s m args below meth c H locs cells slots (MQ below (va_Qq post (fun u t => BB u t.heap) A) args s mc ms A) (F0 m pc ls [va_rf v]) :=
  W.widen (k := mc) (n := ms) hc hs (W.aret hexec hb hr hrt (by cases v with | none => exact Or.inl rfl | some a => exact Or.inr ⟨a, rfl⟩) (fun t ht _ => ⟨⟨v, u, rfl, hp, by subst ht; exact hB⟩, hS.F ht⟩) hS.2.2 hdg hlocks)
end ZC
/-- a contract by its body -/
theorem zb_met {l : Launch} {y : MethodName} {cc : ByteArray} {maxL : Nat} {ret : Option FieldType} {d mc ms : Nat} {av : List Value} {g : zG} {A : Nat → Prop} {B0 : Heap → Prop} {Qc : Array Value → State → Outcome → State → Prop} (hy : plainName y.cls = true) (hlen : (lg_sl av).length ≤ maxL)
    (body : ∀ (p : Program) (e : Env) (s : State) (m : MethodId) (args : Array Value) (below : List Frame) (meth : Method) (c : Code) (ls : Array Slot), p.tables.exec = Jvm.exec → c.code = cc → meth.sig.returnType = ret → c.maxLocals = maxL → s.vm.findClass y.cls = some m.cls → (∀ w ∈ lw_all, w.before args s = true) → meth.locks = false → meth.name = y.name → zK g A s → B0 s.heap → args = av.toArray → lv_has ls maxL (lv_args 0 av) →
      W p l e (zR d mc ms) s m args below meth c s.heap [] 0 0 (MQ below Qc args s mc ms A) (F0 m 0 ls [])) : Met l y (ws_ y cc maxL ret) (zR d mc ms) (zP av g A B0) Qc mc ms A := by
  refine Met.ofW (cc := cc) (maxL := maxL) (ret := ret) hy rfl ?_
  intro p e s m args below meth c s₁ B hml hv
  obtain ⟨rfl, hK, hB⟩ := hv
  have hts := atoms_spec (ws := ws_ y cc maxL ret) B.pre
  have hts : ∀ w ∈ lw_all, w.before _ s = true := fun w h => hts w (List.mem_cons_of_mem _ h)
  have hown : s.vm.findClass y.cls = some m.cls := findClass_of_methodNamed B.named
  rw [lg_entry_eq]
  exact body p e s m _ below meth c _ B.exec B.bytes B.returns hml hown hts B.notSynchronized (name_of_methodNamed B.named B.method).1 hK hB rfl (lv_entry av hlen)
