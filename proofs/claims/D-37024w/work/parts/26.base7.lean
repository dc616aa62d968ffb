/-! open references: loads, stores, branches -/
section ZO
variable {p : Program} {l : Launch} {e : Env} {R : Room} {s : State} {m : MethodId} {args : Array Value} {below : List Frame} {meth : Method} {c : Code} {H : Heap} {locs : List Loc} {cells slots : Nat} {Q : State → Prop}
variable {cc : ByteArray} {pc : Nat} {ls : Array Slot} {rest : List Value}
theorem lv_aload_nO (hexec : p.tables.exec = Jvm.exec) (hb : c.code = cc) {k : Fin 4} {i : Nat} {x : Option Nat} (hdg : decode cc pc = .ok (.aload_n k, 1)) (hi : (k : Nat) = i) (hl : ls[i]? = some (.val (va_rf x)))
    (kk : W p l e R s m args below meth c H locs cells slots Q (F0 m (pc + 1) ls (va_rf x :: rest))) : W p l e R s m args below meth c H locs cells slots Q (F0 m pc ls rest) := by
  cases x with
  | none => exact lv_aload_nN hexec hb hdg hi hl kk
  | some y => exact lv_aload_n hexec hb hdg hi hl kk
theorem lv_aloadO (hexec : p.tables.exec = Jvm.exec) (hb : c.code = cc) {i : Nat} {x : Option Nat} (hdg : decode cc pc = .ok (.aload i, 2)) (hl : ls[i]? = some (.val (va_rf x)))
    (kk : W p l e R s m args below meth c H locs cells slots Q (F0 m (pc + 2) ls (va_rf x :: rest))) : W p l e R s m args below meth c H locs cells slots Q (F0 m pc ls rest) := by
  cases x with
  | none => exact lv_aloadN hexec hb hdg hl kk
  | some y => exact lv_aload hexec hb hdg hl kk
theorem lv_astore_nO (hexec : p.tables.exec = Jvm.exec) (hb : c.code = cc) {k : Fin 4} {i nL : Nat} {x : Option Nat} {lv lv' : List (Nat × Value)} (hdg : decode cc pc = .ok (.astore_n k, 1)) (hi : (k : Nat) = i) (h : lv_has ls nL lv) (hn : i < nL) (hl : (i, va_rf x) :: lv.filter (fun q => !(q.1 == i) && !(q.1 + 1 == i && q.2.category == 2)) = lv')
    (kk : ∀ ls' : Array Slot, lv_has ls' nL lv' → W p l e R s m args below meth c H locs cells slots Q (F0 m (pc + 1) ls' rest)) : W p l e R s m args below meth c H locs cells slots Q (F0 m pc ls (va_rf x :: rest)) := by
  cases x with
  | none => exact lv_astore_nN hexec hb hdg hi h hn hl kk
  | some y => exact lv_astore_n hexec hb hdg hi h hn hl kk
theorem lv_astoreO (hexec : p.tables.exec = Jvm.exec) (hb : c.code = cc) {i nL : Nat} {x : Option Nat} {lv lv' : List (Nat × Value)} (hdg : decode cc pc = .ok (.astore i, 2)) (h : lv_has ls nL lv) (hn : i < nL) (hl : (i, va_rf x) :: lv.filter (fun q => !(q.1 == i) && !(q.1 + 1 == i && q.2.category == 2)) = lv')
    (kk : ∀ ls' : Array Slot, lv_has ls' nL lv' → W p l e R s m args below meth c H locs cells slots Q (F0 m (pc + 2) ls' rest)) : W p l e R s m args below meth c H locs cells slots Q (F0 m pc ls (va_rf x :: rest)) := by
  cases x with
  | none => exact lv_astoreN hexec hb hdg h hn hl kk
  | some y => exact lv_astore hexec hb hdg h hn hl kk
theorem lv_ifnullO (hexec : p.tables.exec = Jvm.exec) (hb : c.code = cc) {x : Option Nat} {off : Int} {tgt : Nat} (hdg : decode cc pc = .ok (.ifnull off, 3)) (ht : (pc : Int) + off = (tgt : Int)) (k1 : x = none → W p l e R s m args below meth c H locs cells slots Q (F0 m tgt ls rest)) (k2 : ∀ y, x = some y → W p l e R s m args below meth c H locs cells slots Q (F0 m (pc + 3) ls rest)) : W p l e R s m args below meth c H locs cells slots Q (F0 m pc ls (va_rf x :: rest)) := by
  cases x with
  | none => exact lv_ifnullN hexec hb hdg ht (k1 rfl)
  | some y => exact lv_ifnull hexec hb hdg (k2 y rfl)
theorem lv_ifnonnullO (hexec : p.tables.exec = Jvm.exec) (hb : c.code = cc) {x : Option Nat} {off : Int} {tgt : Nat} (hdg : decode cc pc = .ok (.ifnonnull off, 3)) (ht : (pc : Int) + off = (tgt : Int)) (k1 : ∀ y, x = some y → W p l e R s m args below meth c H locs cells slots Q (F0 m tgt ls rest)) (k2 : x = none → W p l e R s m args below meth c H locs cells slots Q (F0 m (pc + 3) ls rest)) : W p l e R s m args below meth c H locs cells slots Q (F0 m pc ls (va_rf x :: rest)) := by
  cases x with
  | none => exact lv_ifnonnullN hexec hb hdg (k2 rfl)
  | some y => exact lv_ifnonnull hexec hb hdg ht (k1 y rfl)
end ZO
/-- an element as the raw map sees it -/
def zEM (M : Nat → Option va_E) (x : Option Nat) : Prop := ∀ v, x = some v → ∃ ci vs, M v = some (zo ci vs) ∧ (ci = 3 ∨ ci = 5 ∨ ci = 8 ∨ ci = 9)
theorem zEM.ok {g : zG} {A : Nat → Prop} {s : State} {M : Nat → Option va_E} {x : Option Nat} (h : zEM M x) (hK : zK g A s) : zm_elt g s M x := by
  intro v hv
  obtain ⟨ci, vs, h1, h2⟩ := h v hv
  rcases h2 with rfl | rfl | rfl | rfl
  · exact ⟨3, vs, _, h1, rfl, hK.2.1.2.2.1 _ _ q1361⟩
  · exact ⟨5, vs, _, h1, rfl, hK.2.1.2.2.1 _ _ q1365⟩
  · exact ⟨8, vs, _, h1, rfl, hK.2.1.2.2.1 _ _ q1369⟩
  · exact ⟨9, vs, _, h1, rfl, hK.2.1.2.2.1 _ _ q1357⟩
theorem zEM.up {M : Nat → Option va_E} {x : Option Nat} {q : Nat} {e : va_E} (h : zEM M x) (hq : ∀ ci vs, M q = some (zo ci vs) → ∃ ws, e = zo ci ws) : zEM (va_up M q (some e)) x := by
  intro v hv
  obtain ⟨ci, vs, h1, h2⟩ := h v hv
  by_cases z : v = q
  · subst z
    obtain ⟨ws, rfl⟩ := hq _ _ h1
    exact ⟨ci, ws, va_up_self _ _ _, h2⟩
  · exact ⟨ci, vs, by rw [va_up_ne _ _ z]; exact h1, h2⟩
theorem zEl.raw {g : zG} {T : zT} {M : Nat → Option va_E} {bk : Nat → Nat} {x : Option Nat} (h : zEl T x) (hT : zTM g T M bk) : zEM M x := by
  intro v hv
  rcases h v hv with ⟨ci, vs, h1, h2⟩ | ⟨w, h1⟩
  · exact ⟨ci, vs, hT.1 _ _ h1, by omega⟩
  · exact ⟨9, _, (hT.2.1 _ _ _ h1).1, by omega⟩
theorem zup_up {α : Type} (f : Nat → α) (k : Nat) (v w : α) : va_up (va_up f k v) k w = va_up f k w := by
  funext j; unfold va_up; split <;> rfl
theorem zmin {a b : Nat} (ha : a < 2 ^ 31) (hb : b < 2 ^ 31) : (if nI b < nI a then nI b else nI a) = nI (min a b) := by
  by_cases h : b < a
  · rw [if_pos ((nI_ltI hb ha).mpr h), Nat.min_eq_right (by omega)]
  · rw [if_neg (fun q => h ((nI_ltI hb ha).mp q)), Nat.min_eq_left (by omega)]
theorem zmax {a b : Nat} (ha : a < 2 ^ 31) (hb : b < 2 ^ 31) : (if nI a < nI b then nI b else nI a) = nI (max a b) := by
  by_cases h : a < b
  · rw [if_pos ((nI_ltI ha hb).mpr h), Nat.max_eq_right (by omega)]
  · rw [if_neg (fun q => h ((nI_ltI ha hb).mp q)), Nat.max_eq_left (by omega)]
theorem zsub {a b : Nat} (h : b ≤ a) : nI a - nI b = nI (a - b) := by
  obtain ⟨k, rfl⟩ := Nat.exists_eq_add_of_le h
  rw [Nat.add_sub_cancel_left, ← nI_add, Int32.add_comm, Int32.add_sub_cancel]
theorem zshr {a : Nat} (h : a < 2 ^ 31) : nI a >>> (1 &&& 31) = nI (a / 2) := by
  have := pk_shrN h (1 &&& 31) 1 (by decide)
  simpa using this
theorem zm_recv {g : zG} {A : Nat → Prop} {s : State} {M : Nat → Option va_E} {H : Heap} {a ci : Nat} {fs : List Value} {r : vw_C} (hK : va_K g.1 zCl (zTy g) s) (hM : zMH g A M H) (he : M a = some (.inr (ci, fs))) (hc : zCl[ci]? = some r) : ∃ cell : Cell, H[a]? = some cell ∧ cell.vm.isStatics = false ∧ s.vm.findClass r.1 = some cell.cls :=
  va_recv hK (hM.one he) (q0 := 0) hc rfl
theorem zMet_ofWF {l : Launch} {y : MethodName} {ws ws' : List Cond} {rm : Room} {Pc : Array Value → State → Prop} {Qc : Array Value → State → Outcome → State → Prop} {mc ms : Nat} {free : Addr → Prop} {cc : ByteArray} {maxL : Nat} {ret : Option FieldType}
    (hy : plainFor y = true) (hw : ws = Cond.code y cc maxL ret :: ws')
    (body : ∀ p e s m args below meth c s₁, BodyLoose p l y (headSpec ws rm) cc maxL ret e s m args below meth c s₁ → c.maxLocals = maxL → Pc args s →
      W p l e (headSpec ws rm).room s m args below meth c s.heap [] 0 0 (MQ below Qc args s mc ms free) (entryFrame m args maxL)) : Met l y ws rm Pc Qc mc ms free := by
  refine MetFree.of_bodySF (code := cc) (maxLocals := maxL) (ret := ret) hy ?_ ?_
  · intro args s m h hn
    obtain ⟨meth, c, h1, h2, h3, h4, h5, h6, -, -⟩ := Cond.code_spec hn (atoms_spec (ws := ws) h _ (by rw [hw]; exact List.mem_cons_self))
    exact ⟨meth, c, h1, h2, h3, h4, h5, h6⟩
  · intro p e s m args below meth c s₁ B hml hP _
    obtain ⟨t, a1, o, b1, b2, b3⟩ := body p e s m args below meth c s₁ B hml hP s₁ (by rw [B.state]; rfl) (Stand.of_body B)
    exact ⟨t, o, a1, b1, b2, b3.1, b3.2⟩
theorem zb_metF {l : Launch} {y : MethodName} {cc : ByteArray} {maxL : Nat} {ret : Option FieldType} {d mc ms : Nat} {av : List Value} {g : zG} {A : Nat → Prop} {B0 : Heap → Prop} {Qc : Array Value → State → Outcome → State → Prop} (hy : plainFor y = true) (hlen : (lg_sl av).length ≤ maxL)
    (body : ∀ (p : Program) (e : Env) (s : State) (m : MethodId) (args : Array Value) (below : List Frame) (meth : Method) (c : Code) (ls : Array Slot), p.tables.exec = Jvm.exec → c.code = cc → meth.sig.returnType = ret → c.maxLocals = maxL → s.vm.findClass y.cls = some m.cls → (∀ w ∈ lw_all, w.before args s = true) → meth.locks = false → meth.name = y.name → zK g A s → B0 s.heap → args = av.toArray → lv_has ls maxL (lv_args 0 av) →
      W p l e (zR d mc ms) s m args below meth c s.heap [] 0 0 (MQ below Qc args s mc ms A) (F0 m 0 ls [])) : Met l y (ws_ y cc maxL ret) (zR d mc ms) (zP av g A B0) Qc mc ms A := by
  refine zMet_ofWF (cc := cc) (maxL := maxL) (ret := ret) hy rfl ?_
  intro p e s m args below meth c s₁ B hml hv
  obtain ⟨rfl, hK, hB⟩ := hv
  have hts := atoms_spec (ws := ws_ y cc maxL ret) B.pre
  have hts : ∀ w ∈ lw_all, w.before _ s = true := fun w h => hts w (List.mem_cons_of_mem _ h)
  have hown : s.vm.findClass y.cls = some m.cls := findClass_of_methodNamed B.named
  rw [lg_entry_eq]
  exact body p e s m _ below meth c _ B.exec B.bytes B.returns hml hown hts B.notSynchronized (name_of_methodNamed B.named B.method).1 hK hB rfl (lv_entry av hlen)
