/-! ARRAYS OF REFERENCES MADE; COPIES of arrays. -/
section ZA
variable {p : Program} {l : Launch} {e : Env} {R : Room} {s : State} {m : MethodId} {args : Array Value} {below : List Frame} {meth : Method} {c : Code} {H : Heap} {locs : List Loc} {cells slots : Nat} {Q : State → Prop}
variable {cc : ByteArray} {pc : Nat} {ls : Array Slot} {rest : List Value} {g : zG} {A : Nat → Prop} {a : Nat} {M : Nat → Option va_E} {H0 : Heap}
theorem zm_newQ (hexec : p.tables.exec = Jvm.exec) (hb : c.code = cc) {own : String} {index : Nat} (hown : s.vm.findClass own = some m.cls) (hclink : (Cond.classLink own index "java/lang/Object").before args s = true) (hover : va_AO "java/lang/Object" s) (hK : va_K g.1 zCl (zTy g) s) (hM : zMH g A M H) (hS : va_S A H0 H locs)
    {n : Nat} (hn : n ≤ 60000) (hcells : cells + 1 ≤ R.cells) (hslots : slots + n ≤ R.slots) (hdg : decode cc pc = .ok (.anewarray index, 3))
    (kk : ∀ (q : Nat) (H1 : Heap), M q = none → zd0 g ≠ q → H.size ≤ q → zMH g A (va_up M q (some (zQ g n (fun _ => none)))) H1 → va_S A H0 H1 locs → W p l e R s m args below meth c H1 locs (cells + 1) (slots + n) Q (F0 m (pc + 3) ls (.ref q :: rest))) : W p l e R s m args below meth c H locs cells slots Q (F0 m pc ls (.int (nI n) :: rest)) := by
  have hc : (nI n).toNatClampNeg = n := nI_clamp (by omega)
  refine W.anew hexec hb hown hclink (va_AO.use hover) rfl hdg rfl (nI_pos (by omega)) (by rw [hc]; omega) hcells (by rw [hc]; exact hslots) fun cA kA comp f1 f2 f3 f4 => ?_
  rw [hc]
  generalize hH1 : H.push ({ cls := cA, slots := Array.replicate n .null, vm := .none } : Cell) = H1
  have z1 : H1.size = H.size + 1 := by rw [← hH1, Array.size_push]
  have e1 : H1[H.size]? = some (arrV cA n (fun _ => .null)) := by rw [← hH1, Array.getElem?_push_size, ← arrV_new]
  have o1 : ∀ q : Nat, q < H.size → H1[q]? = H[q]? := fun q hq => by rw [← hH1, Array.getElem?_push, if_neg (Nat.ne_of_lt hq)]
  obtain ⟨kA', comp', -, -, -, hfc⟩ := (hK.2 3 _ rfl).2
  have hcA : cA = g.2.1.2.2.2 := Option.some.inj (f1.symm.trans hfc)
  subst hcA
  have hM1 : zMH g A (va_up M H.size (some (zQ g n (fun _ => none)))) H1 := hM.push (by show H1[H.size]? = some (vp_cell _ _); rw [vp_cell_q]; exact e1) z1 o1
  exact kk H.size H1 hM.new (hM.ne0 (hM.2.2.1 _ (Nat.le_refl _))) (Nat.le_refl _) hM1 (hS.grow (by omega) o1)
theorem zm_copyQ (hexec : p.tables.exec = Jvm.exec) (hb : c.code = cc) (hml : c.maxLocals = ls.size) {own : String} {index : Nat} (hown : s.vm.findClass own = some m.cls) (hlink : (Cond.methodLink own index arraycopyName).before args s = true) (hnat : (Cond.native arraycopyName).before args s = true) (hstat : (Cond.static arraycopyName).before args s = true) (hini : (Cond.initialized "java/lang/System").before args s = true)
    (hK : va_K g.1 zCl (zTy g) s) (hM : zMH g A M H) (hS : va_S A H0 H locs) {a0 n0 n1 : Nat} {f h : Nat → Option Nat} (ha0 : M a0 = some (zQ g n0 f)) (ha1 : M a = some (zQ g n1 h)) (hA : A a) (hn0 : n0 < 2 ^ 31) (hn1 : n1 < 2 ^ 31)
    {sp dp n : Nat} (h4 : sp + n ≤ n0) (h5 : dp + n ≤ n1) (h00 : 0 < n0) (hel : ∀ i, i < n → zm_elt g s M (f (sp + i))) (hframes : 1 ≤ R.frames) (hlocals : (rest.map fun v => v.category).sum + (nativeFrameWords "java/lang/System" "arraycopy" 5 + 11) ≤ R.locals) (hdg : decode cc pc = .ok (.invokestatic index, 3))
    (kk : ∀ (H1 : Heap) (locs1 : List Loc), zMH g A (va_up M a (some (zQ g n1 (va_cpy f h sp dp n)))) H1 → va_S A H0 H1 locs1 → W p l e R s m args below meth c H1 locs1 cells slots Q (F0 m (pc + 3) ls rest)) : W p l e R s m args below meth c H locs cells slots Q (F0 m pc ls (.int (nI n) :: .int (nI dp) :: .ref a :: .int (nI sp) :: .ref a0 :: rest)) := by
  have c1 : (nI sp).toNatClampNeg = sp := nI_clamp (by omega)
  have c2 : (nI dp).toNatClampNeg = dp := nI_clamp (by omega)
  have c3 : (nI n).toNatClampNeg = n := nI_clamp (by omega)
  have nn : ∀ z : Int32, ¬ z < 0 → z.toInt = (z.toNatClampNeg : Int) := by
    intro z hz
    have hz0 : (0 : Int) ≤ z.toInt := by
      have := Int32.not_lt.mp hz
      simpa using Int32.le_iff_toInt_le.mp this
    show z.toInt = ((z.toInt.toNat : Nat) : Int)
    omega
  intro T hT X
  have hc0 : H[a0]? = some (vp_cell g.2.1.2.2.2 (n0, .inr (.inr (.inr (.inr f))))) := hM.ar ha0 h00
  have hc1 : H[a]? = some (vp_cell g.2.1.2.2.2 (n1, .inr (.inr (.inr (.inr h))))) := hM.arA ha1 hA
  obtain ⟨-, k0, hk0, cm0, hkk0⟩ := (hK.2 3 _ rfl).1 n0 (fun j => va_rf (f j))
  obtain ⟨-, k1, hk1, cm1, hkk1⟩ := (hK.2 3 _ rfl).1 n1 (fun j => va_rf (h j))
  have p1 : ¬ nI sp < 0 := nI_pos (by omega)
  have p2 : ¬ nI dp < 0 := nI_pos (by omega)
  have p3 : ¬ nI n < 0 := nI_pos (by omega)
  obtain ⟨vm', X', step⟩ := X.arraycopy hexec hown hlink hnat hstat hini (src := a0) (dst := a) (cs := vp_cell g.2.1.2.2.2 (n0, .inr (.inr (.inr (.inr f))))) (cd := vp_cell g.2.1.2.2.2 (n1, .inr (.inr (.inr (.inr h))))) (srcPos := nI sp) (destPos := nI dp) (n := nI n) (by rw [hT]; exact hc0) (by rw [hT]; exact hc1)
    (fun _ h => by cases h) (fun _ h => by cases h) (fun h => by cases h) (fun h => by cases h) hk0 hk1 hkk0 hkk1 rfl p1 p2 p3
    (by rw [nn _ p1, nn _ p3, c1, c3]; show ¬ _ > ((arrV _ n0 (fun j => va_rf (f j))).slots.size : Int); rw [arrV_size]; omega)
    (by rw [nn _ p2, nn _ p3, c2, c3]; show ¬ _ > ((arrV _ n1 (fun j => va_rf (h j))).slots.size : Int); rw [arrV_size]; omega)
    (fun vm₁ hal i hi => by
      rw [c3] at hi
      rw [c1]
      have e : (vp_cell g.2.1.2.2.2 (n0, .inr (.inr (.inr (.inr f))))).slots.getD (sp + i) .null = va_rf (f (sp + i)) := by
        show (arrV _ n0 (fun j => va_rf (f j))).slots.getD _ _ = _
        rw [Array.getD_eq_getD_getElem?, arrV_read _ _ (by omega)]
        rfl
      rw [e]
      cases hy : f (sp + i) with
      | none => exact ⟨rfl, trivial⟩
      | some y =>
        obtain ⟨ci, vs, r, hv, hc, hcast⟩ := hel i hi y hy
        obtain ⟨r', hr', cellV, g1, g2, g3, -⟩ := hM.ob hv
        cases Option.some.inj (hr'.symm.trans hc)
        have hcls := (hK.1 ci _ hc).2
        obtain ⟨kA, comp, r1, r2, r3, -⟩ := (hK.2 3 _ rfl).2
        cases hk1.symm.trans r1
        cases hkk1.symm.trans r2
        obtain ⟨c0, t0, f1, f2, f3⟩ := Cond.castable_spec (va_Nw.use (A := args) rfl hcast)
        have e0 : c0 = g.1.1 ci := Option.some.inj (f1.symm.trans hcls.1)
        have et : t0 = _ := Option.some.inj (f2.symm.trans r3)
        subst e0 et
        obtain ⟨kC, hkC, -⟩ := Vm.findClass_spec f1
        obtain ⟨kE, hkE, -⟩ := Vm.findClass_spec r3
        obtain ⟨kC', hkC', -⟩ := hal.2.2 _ _ hkC
        obtain ⟨kE', hkE', -⟩ := hal.2.2 _ _ hkE
        refine ⟨rfl, cellV, (show T.heap[y]? = some cellV by rw [hT]; exact g1), (fun q h => by rw [g3] at h; cases h), ⟨kC', by rw [g2]; exact hkC'⟩, ?_, ?_⟩
        · exact ⟨kE', hkE'⟩
        · show vm₁.assignable _ _ = true
          rw [hal.assignable, g2]
          exact f3)
    (g := F0 m pc ls (.int (nI n) :: .int (nI dp) :: .ref a :: .int (nI sp) :: .ref a0 :: rest)) rfl (by rw [hml]) (rest := rest) rfl (by rw [hb]; exact hdg) hframes (by show 2 * 0 + _ + _ ≤ _; omega)
  have e1 : copied (vp_cell g.2.1.2.2.2 (n0, .inr (.inr (.inr (.inr f))))) (vp_cell g.2.1.2.2.2 (n1, .inr (.inr (.inr (.inr h))))) (nI sp) (nI dp) (nI n) = vp_cell g.2.1.2.2.2 (n1, .inr (.inr (.inr (.inr (va_cpy f h sp dp n))))) := by
    rw [vp_cell_q, vp_cell_q, vp_cell_q]
    show (arrV g.2.1.2.2.2 n1 (fun j => va_rf (h j))).storeRun (nI dp).toNatClampNeg ((arrV g.2.1.2.2.2 n0 (fun j => va_rf (f j))).stretch (nI sp).toNatClampNeg (nI n).toNatClampNeg) = _
    rw [c1, c2, c3]
    exact va_copied (fun z => va_rf z) g.2.1.2.2.2 g.2.1.2.2.2 f h h4
  rw [e1] at X' step
  have hl : a < H.size := (Array.getElem?_eq_some_iff.mp hc1).1
  have hheap : ((T.setVm vm').setCell a (vp_cell g.2.1.2.2.2 (n1, .inr (.inr (.inr (.inr (va_cpy f h sp dp n))))))).heap = H.setIfInBounds a (vp_cell g.2.1.2.2.2 (n1, .inr (.inr (.inr (.inr (va_cpy f h sp dp n)))))) := by rw [← hT]; rfl
  generalize hH1 : H.setIfInBounds a (vp_cell g.2.1.2.2.2 (n1, .inr (.inr (.inr (.inr (va_cpy f h sp dp n)))))) = H1 at hheap
  have oq : ∀ q : Nat, q ≠ a → H1[q]? = H[q]? := fun q hq => by rw [← hH1]; simp [Array.getElem?_setIfInBounds, Ne.symm hq]
  have hz : H1.size = H.size := by rw [← hH1]; simp
  have ha : H1[a]? = some (vp_cell g.2.1.2.2.2 (n1, .inr (.inr (.inr (.inr (va_cpy f h sp dp n)))))) := by rw [← hH1]; simp [Array.getElem?_setIfInBounds, hl]
  obtain ⟨t, a1, b1⟩ := kk H1 _ (hM.up hA ha hz oq) ⟨by rw [hz]; exact hS.1, fun q g1 g2 => by
      rw [oq q (fun e => g2 (by rw [e]; exact hA))]
      exact hS.2.1 q g1 g2, fun q hq => by
      rcases List.mem_append.mp hq with h | h
      · exact hS.2.2 q h
      · obtain ⟨z, -, hz⟩ := List.mem_map.mp h
        rw [← hz]
        exact hA⟩ _ hheap X'
  exact ⟨t, step t a1, b1⟩
theorem zm_copyI (hexec : p.tables.exec = Jvm.exec) (hb : c.code = cc) (hml : c.maxLocals = ls.size) {own : String} {index : Nat} (hown : s.vm.findClass own = some m.cls) (hlink : (Cond.methodLink own index arraycopyName).before args s = true) (hnat : (Cond.native arraycopyName).before args s = true) (hstat : (Cond.static arraycopyName).before args s = true) (hini : (Cond.initialized "java/lang/System").before args s = true)
    (hK : va_K g.1 zCl (zTy g) s) (hM : zMH g A M H) (hS : va_S A H0 H locs) {a0 n0 n1 : Nat} {f h : Nat → Int32} (ha0 : M a0 = some (zI g n0 f)) (ha1 : M a = some (zI g n1 h)) (hA : A a) (hn0 : n0 < 2 ^ 31) (hn1 : n1 < 2 ^ 31)
    {sp dp n : Nat} (h4 : sp + n ≤ n0) (h5 : dp + n ≤ n1) (h00 : 0 < n0) (hframes : 1 ≤ R.frames) (hlocals : (rest.map fun v => v.category).sum + (nativeFrameWords "java/lang/System" "arraycopy" 5 + 11) ≤ R.locals) (hdg : decode cc pc = .ok (.invokestatic index, 3))
    (kk : ∀ (H1 : Heap) (locs1 : List Loc), zMH g A (va_up M a (some (zI g n1 (va_cpy f h sp dp n)))) H1 → va_S A H0 H1 locs1 → W p l e R s m args below meth c H1 locs1 cells slots Q (F0 m (pc + 3) ls rest)) : W p l e R s m args below meth c H locs cells slots Q (F0 m pc ls (.int (nI n) :: .int (nI dp) :: .ref a :: .int (nI sp) :: .ref a0 :: rest)) := by
  have c1 : (nI sp).toNatClampNeg = sp := nI_clamp (by omega)
  have c2 : (nI dp).toNatClampNeg = dp := nI_clamp (by omega)
  have c3 : (nI n).toNatClampNeg = n := nI_clamp (by omega)
  have nn : ∀ z : Int32, ¬ z < 0 → z.toInt = (z.toNatClampNeg : Int) := by
    intro z hz
    have hz0 : (0 : Int) ≤ z.toInt := by
      have := Int32.not_lt.mp hz
      simpa using Int32.le_iff_toInt_le.mp this
    show z.toInt = ((z.toInt.toNat : Nat) : Int)
    omega
  intro T hT X
  have hc0 : H[a0]? = some (vp_cell g.2.1.1 (n0, .inl f)) := hM.ar ha0 h00
  have hc1 : H[a]? = some (vp_cell g.2.1.1 (n1, .inl h)) := hM.arA ha1 hA
  obtain ⟨-, k0, hk0, cm0, hkk0⟩ := (hK.2 0 _ rfl).1 n0 (fun j => .int (f j))
  obtain ⟨-, k1, hk1, cm1, hkk1⟩ := (hK.2 0 _ rfl).1 n1 (fun j => .int (h j))
  have p1 : ¬ nI sp < 0 := nI_pos (by omega)
  have p2 : ¬ nI dp < 0 := nI_pos (by omega)
  have p3 : ¬ nI n < 0 := nI_pos (by omega)
  obtain ⟨vm', X', step⟩ := X.arraycopy hexec hown hlink hnat hstat hini (src := a0) (dst := a) (cs := vp_cell g.2.1.1 (n0, .inl f)) (cd := vp_cell g.2.1.1 (n1, .inl h)) (srcPos := nI sp) (destPos := nI dp) (n := nI n) (by rw [hT]; exact hc0) (by rw [hT]; exact hc1)
    (fun _ h => by cases h) (fun _ h => by cases h) (fun h => by cases h) (fun h => by cases h) hk0 hk1 hkk0 hkk1 rfl p1 p2 p3
    (by rw [nn _ p1, nn _ p3, c1, c3]; show ¬ _ > ((arrV _ n0 (fun j => .int (f j))).slots.size : Int); rw [arrV_size]; omega)
    (by rw [nn _ p2, nn _ p3, c2, c3]; show ¬ _ > ((arrV _ n1 (fun j => .int (h j))).slots.size : Int); rw [arrV_size]; omega)
    (fun vm₁ hal i hi => by
      rw [c3] at hi
      rw [c1]
      have e : (vp_cell g.2.1.1 (n0, .inl f)).slots.getD (sp + i) .null = .int (f (sp + i)) := by
        show (arrV _ n0 (fun j => .int (f j))).slots.getD _ _ = _
        rw [Array.getD_eq_getD_getElem?, arrV_read _ _ (by omega)]
        rfl
      refine ⟨?_, ?_⟩
      · rw [e]; rfl
      · rw [e]; exact trivial)
    (g := F0 m pc ls (.int (nI n) :: .int (nI dp) :: .ref a :: .int (nI sp) :: .ref a0 :: rest)) rfl (by rw [hml]) (rest := rest) rfl (by rw [hb]; exact hdg) hframes (by show 2 * 0 + _ + _ ≤ _; omega)
  have e1 : copied (vp_cell g.2.1.1 (n0, .inl f)) (vp_cell g.2.1.1 (n1, .inl h)) (nI sp) (nI dp) (nI n) = vp_cell g.2.1.1 (n1, .inl (va_cpy f h sp dp n)) := by
    rw [vp_cell_i, vp_cell_i, vp_cell_i]
    show (arrV g.2.1.1 n1 (fun j => .int (h j))).storeRun (nI dp).toNatClampNeg ((arrV g.2.1.1 n0 (fun j => .int (f j))).stretch (nI sp).toNatClampNeg (nI n).toNatClampNeg) = _
    rw [c1, c2, c3]
    exact va_copied (fun z => .int z) g.2.1.1 g.2.1.1 f h h4
  rw [e1] at X' step
  have hl : a < H.size := (Array.getElem?_eq_some_iff.mp hc1).1
  have hheap : ((T.setVm vm').setCell a (vp_cell g.2.1.1 (n1, .inl (va_cpy f h sp dp n)))).heap = H.setIfInBounds a (vp_cell g.2.1.1 (n1, .inl (va_cpy f h sp dp n))) := by rw [← hT]; rfl
  generalize hH1 : H.setIfInBounds a (vp_cell g.2.1.1 (n1, .inl (va_cpy f h sp dp n))) = H1 at hheap
  have oq : ∀ q : Nat, q ≠ a → H1[q]? = H[q]? := fun q hq => by rw [← hH1]; simp [Array.getElem?_setIfInBounds, Ne.symm hq]
  have hz : H1.size = H.size := by rw [← hH1]; simp
  have ha : H1[a]? = some (vp_cell g.2.1.1 (n1, .inl (va_cpy f h sp dp n))) := by rw [← hH1]; simp [Array.getElem?_setIfInBounds, hl]
  obtain ⟨t, a1, b1⟩ := kk H1 _ (hM.up hA ha hz oq) ⟨by rw [hz]; exact hS.1, fun q g1 g2 => by
      rw [oq q (fun e => g2 (by rw [e]; exact hA))]
      exact hS.2.1 q g1 g2, fun q hq => by
      rcases List.mem_append.mp hq with h | h
      · exact hS.2.2 q h
      · obtain ⟨z, -, hz⟩ := List.mem_map.mp h
        rw [← hz]
        exact hA⟩ _ hheap X'
  exact ⟨t, step t a1, b1⟩
end ZA
