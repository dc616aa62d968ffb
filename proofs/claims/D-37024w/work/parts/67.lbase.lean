/-! THE LAW's CALLS: a cell beside the world that the callee doesn't own -/
theorem zTH.split {g : zG} {A : Nat → Prop} {T : zT} {H : Heap} {o : Nat} {e : va_E} (h : zTH g A (va_up T o (some (.inl e))) H) (ho : T o = none) : zTH g (fun q => A q ∧ q ≠ o) T H := by
  obtain ⟨M, bk, hM, h1, h2, h3, h4, h5⟩ := h
  have hlt : o < H.size := hM.lt (h1 o e (va_up_self _ _ _))
  have h0 : zd0 g ≠ o := fun z => by rw [z, va_up_self] at h5; cases h5
  have hT : ∀ a x, T a = some x → a ≠ o ∧ va_up T o (some (.inl e)) a = some x := fun a x ha => by
    have hne : a ≠ o := fun z => by rw [z, ho] at ha; cases ha
    exact ⟨hne, by rw [va_up_ne _ _ hne]; exact ha⟩
  have hTn : ∀ a, a ≠ o → va_up T o (some (.inl e)) a = T a := fun a ha => va_up_ne _ _ ha
  have hbo : ∀ a v, T a = some (.inr v) → bk a ≠ o := fun a v ha z => by
    have := h3 a v (hT a _ ha).2
    rw [z, va_up_self] at this; cases this
  refine ⟨fun a => if a = o then none else M a, bk, ⟨fun a x hx => ?_, fun a x hx hne => ?_, fun q hq => ⟨hM.2.2.1 q hq, by omega⟩, ?_, fun z => hM.2.2.2.2 z.1⟩, fun a x hx => ?_, fun a mu xs hx => ?_, fun a v hx => ?_, fun a b v w ha hb he hne => ?_, ?_⟩
  · dsimp only at hx
    split at hx
    · cases hx
    · exact hM.1 a x hx
  · dsimp only at hx
    split at hx
    · cases hx
    · next c => exact ⟨hM.2.1 a x hx hne, c⟩
  · show (if zd0 g = o then none else M (zd0 g)) = _
    rw [if_neg h0]; exact hM.2.2.2.1
  · obtain ⟨c, hx2⟩ := hT a _ hx
    show (if a = o then none else M a) = _
    rw [if_neg c]; exact h1 a x hx2
  · obtain ⟨c, hx2⟩ := hT a _ hx
    obtain ⟨k1, cap, f, k2, k3⟩ := h2 a mu xs hx2
    refine ⟨?_, cap, f, ?_, k3⟩
    · show (if a = o then none else M a) = _
      rw [if_neg c]; exact k1
    · show (if bk a = o then none else M (bk a)) = _
      rw [if_neg (hbo a _ hx)]; exact k2
  · rw [← hTn _ (hbo a v hx)]; exact h3 a v (hT a _ hx).2
  · exact h4 a b v w (hT a _ ha).2 (hT b _ hb).2 he hne
  · rw [← hTn _ h0]; exact h5
theorem zTH.join {g : zG} {A : Nat → Prop} {T T1 : zT} {H H1 : Heap} {o : Nat} {e : va_E} (h : zTH g A (va_up T o (some (.inl e))) H) (h1 : zTH g (fun q => A q ∧ q ≠ o) T1 H1) (hk : H1[o]? = H[o]?) : zTH g A (va_up T1 o (some (.inl e))) H1 ∧ T1 o = none := by
  obtain ⟨M, bk, hM, hTM⟩ := h
  have hMo : M o = some e := hTM.1 o e (va_up_self _ _ _)
  have hA : A o := by
    refine hM.2.1 o e hMo (fun z => ?_)
    have := hTM.2.2.2.2
    rw [← z, va_up_self] at this; cases this
  have h0 : zd0 g ≠ o := fun z => hM.2.2.2.2 (by rw [z]; exact hA)
  obtain ⟨M1, bk1, hM1, hT1⟩ := h1
  have hn1 : M1 o = none := by
    cases z : M1 o with
    | none => rfl
    | some x => exact absurd rfl (hM1.2.1 o x z h0.symm).2
  refine ⟨⟨va_up M1 o (some e), bk1, ⟨fun a x hx => ?_, fun a x hx hne => ?_, fun q hq => (hM1.2.2.1 q hq).1, by rw [va_up_ne _ _ h0]; exact hM1.2.2.2.1, hM.2.2.2.2⟩, hT1.push hn1 h0 e⟩, hT1.nil hn1⟩
  · by_cases z : a = o
    · subst z
      rw [va_up_self] at hx; cases hx
      exact (hM.1 a e hMo).kept hk
    · rw [va_up_ne _ _ z] at hx; exact hM1.1 a x hx
  · by_cases z : a = o
    · rw [z]; exact hA
    · rw [va_up_ne _ _ z] at hx; exact (hM1.2.1 a x hx hne).1
theorem zb_wmet {l : Launch} {y : MethodName} {cc : ByteArray} {maxL : Nat} {ret : Option FieldType} {hh : List (Nat × Nat × Nat × Nat)} {d mc ms : Nat} {av : List Value} {g : zG} {A : Nat → Prop} {B0 : Heap → Prop} {Qc : Array Value → State → Outcome → State → Prop} {XC : String → State → State → Prop} (hy : plainName y.cls = true) (hlen : (lg_sl av).length ≤ maxL)
    (body : ∀ (p : Program) (e : Env) (s : State) (m : MethodId) (args : Array Value) (below : List Frame) (meth : Method) (c : Code) (ls : Array Slot), p.tables.exec = Jvm.exec → c.code = cc → meth.sig.returnType = ret → c.maxLocals = maxL → s.vm.findClass y.cls = some m.cls → (∀ w ∈ lw_all, w.before args s = true) → meth.locks = false → meth.name = y.name → zK g A s → B0 s.heap → args = av.toArray → lv_has ls maxL (lv_args 0 av) → c.exceptionTable.toList = tableOf hh →
      W p l e (zR d mc ms) s m args below meth c s.heap [] 0 0 (vx_MQ below Qc XC args s mc ms A) (F0 m 0 ls [])) : vx_Met l y (wsW_ y cc maxL ret hh) (zR d mc ms) (zP av g A B0) Qc XC mc ms A := by
  refine vx_ofWH (cc := cc) (maxL := maxL) (ret := ret) (hh := hh) hy rfl ?_
  intro p e s m args below meth c s₁ B hml hv
  obtain ⟨rfl, hK, hB⟩ := hv
  have hts0 := atoms_spec (ws := wsW_ y cc maxL ret hh) B.pre
  have hts : ∀ w ∈ lw_all, w.before _ s = true := fun w h => hts0 w (List.mem_cons_of_mem _ h)
  have hown : s.vm.findClass y.cls = some m.cls := findClass_of_methodNamed B.named
  rw [lg_entry_eq]
  exact body p e s m _ below meth c _ B.exec B.bytes B.returns hml hown hts B.notSynchronized (name_of_methodNamed B.named B.method).1 hK hB rfl (lv_entry av hlen) (vx_table (x := y) B (hts0 _ List.mem_cons_self))
