/-! the rows again, over the map of cells with lists -/
section ZT
variable {p : Program} {l : Launch} {e : Env} {R : Room} {s : State} {m : MethodId} {args : Array Value} {below : List Frame} {meth : Method} {c : Code} {H : Heap} {locs : List Loc} {cells slots : Nat} {Q : State → Prop}
variable {cc : ByteArray} {pc : Nat} {ls : Array Slot} {rest : List Value} {g : zG} {A : Nat → Prop} {a : Nat} {T : zT} {H0 : Heap}
theorem zt_recv (hK : va_K g.1 zCl (zTy g) s) (hT : zTH g A T H) {ci : Nat} {fs : List Value} {r : vw_C} (he : T a = some (.inl (.inr (ci, fs)))) (hc : zCl[ci]? = some r) : ∃ cell : Cell, H[a]? = some cell ∧ cell.vm.isStatics = false ∧ s.vm.findClass r.1 = some cell.cls := by
  obtain ⟨M, bk, hM, hTM⟩ := hT
  exact va_recv hK (hM.one (hTM.1 _ _ he)) (q0 := 0) hc rfl
theorem zt_recvL (hK : va_K g.1 zCl (zTy g) s) (hT : zTH g A T H) {v : Int32 × List (Option Nat)} (he : T a = some (.inr v)) : ∃ cell : Cell, H[a]? = some cell ∧ cell.vm.isStatics = false ∧ s.vm.findClass RJ2 = some cell.cls := by
  obtain ⟨M, bk, hM, hTM⟩ := hT
  exact va_recv hK (hM.one (hTM.2.1 a v.1 v.2 he).1) (q0 := 0) (ci := 9) (q := (RJ2, TJ2, 3)) rfl rfl
theorem zt_get (hexec : p.tables.exec = Jvm.exec) (hb : c.code = cc) {own ref C : String} {T0 : u_T} {N ci index : Nat} {Ts : List Cond} (hts : ∀ w ∈ Ts, w.before args s = true) (hin : ∀ w ∈ u_ws C T0 N, w ∈ Ts) (hown : s.vm.findClass own = some m.cls) (hK : va_K g.1 zCl (zTy g) s) (hT : zTH g A T H) {fs : List Value} (he : T a = some (.inl (.inr (ci, fs)))) (hc : zCl[ci]? = some (C, T0, N)) (k : Nat) (hk : k < N) (hlink : (Cond.fieldLink own index ref (T0 k).2.1 (T0 k).2.2.1).before args s = true) (hsame : ∀ x, s.fieldFound? (T0 k).1 (T0 k).2.1 (T0 k).2.2.1 = some x → s.fieldFound? ref (T0 k).2.1 (T0 k).2.2.1 = some x) {v : Value} (hv : fs[k]? = some v) (hdg : decode cc pc = .ok (.getfield index, 3))
    (kk : W p l e R s m args below meth c H locs cells slots Q (F0 m (pc + 3) ls (v :: rest))) : W p l e R s m args below meth c H locs cells slots Q (F0 m pc ls (.ref a :: rest)) := by
  obtain ⟨M, bk, hM, hTM⟩ := hT
  exact zm_get hexec hb hts hin hown hK hM (hTM.1 _ _ he) hc k hk hlink hsame hv hdg kk
theorem zt_getN (hexec : p.tables.exec = Jvm.exec) (hb : c.code = cc) {own ref C : String} {T0 : u_T} {N ci index : Nat} {Ts : List Cond} (hts : ∀ w ∈ Ts, w.before args s = true) (hin : ∀ w ∈ u_ws C T0 N, w ∈ Ts) {host : String} (hown : s.vm.findClass own = some m.cls) (hK : va_K g.1 zCl (zTy g) s) (hT : zTH g A T H) {fs : List Value} (he : T a = some (.inl (.inr (ci, fs)))) (hc : zCl[ci]? = some (C, T0, N)) (k : Nat) (hk : k < N) (hlink : (Cond.fieldLinkNest own index ref (T0 k).2.1 (T0 k).2.2.1 host).before args s = true) (hsame : ∀ x, s.fieldFound? (T0 k).1 (T0 k).2.1 (T0 k).2.2.1 = some x → s.fieldFound? ref (T0 k).2.1 (T0 k).2.2.1 = some x) {v : Value} (hv : fs[k]? = some v) (hdg : decode cc pc = .ok (.getfield index, 3))
    (kk : W p l e R s m args below meth c H locs cells slots Q (F0 m (pc + 3) ls (v :: rest))) : W p l e R s m args below meth c H locs cells slots Q (F0 m pc ls (.ref a :: rest)) := by
  obtain ⟨M, bk, hM, hTM⟩ := hT
  exact zm_getN hexec hb hts hin hown hK hM (hTM.1 _ _ he) hc k hk hlink hsame hv hdg kk
theorem zt_put (hexec : p.tables.exec = Jvm.exec) (hb : c.code = cc) {own ref C : String} {T0 : u_T} {N ci index : Nat} {Ts : List Cond} (hts : ∀ w ∈ Ts, w.before args s = true) (hin : ∀ w ∈ u_ws C T0 N, w ∈ Ts) (ty0 : Nat → FieldType) (hty : ∀ k, k < N → parseFieldDescriptor (T0 k).2.2.1 = some (ty0 k)) (hnm : ∀ a, a < N → ∀ b, b < N → a ≠ b → (T0 a).2.1 ≠ (T0 b).2.1) (hown : s.vm.findClass own = some m.cls) (hK : va_K g.1 zCl (zTy g) s) (hT : zTH g A T H) (hS0 : va_S A H0 H locs) {fs : List Value} (he : T a = some (.inl (.inr (ci, fs)))) (hc : zCl[ci]? = some (C, T0, N)) (k : Nat) (hk : k < N) (hlink : (Cond.fieldLink own index ref (T0 k).2.1 (T0 k).2.2.1).before args s = true) (hsame : ∀ x, s.fieldFound? (T0 k).1 (T0 k).2.1 (T0 k).2.2.1 = some x → s.fieldFound? ref (T0 k).2.1 (T0 k).2.2.1 = some x) (hfin : (T0 k).2.2.2 = false) {ty : FieldType} {v : Value} (hd : parseFieldDescriptor (T0 k).2.2.1 = some ty) (hn : narrow ty v = v) (hfit : fits ty v = true) (hl : k < fs.length)
    (hdg : decode cc pc = .ok (.putfield index, 3)) (kk : ∀ (H1 : Heap) (locs1 : List Loc), zTH g A (va_up T a (some (.inl (.inr (ci, fs.set k v))))) H1 → va_S A H0 H1 locs1 → W p l e R s m args below meth c H1 locs1 cells slots Q (F0 m (pc + 3) ls rest)) : W p l e R s m args below meth c H locs cells slots Q (F0 m pc ls (v :: .ref a :: rest)) := by
  obtain ⟨M, bk, hM, hTM⟩ := hT
  exact zm_put hexec hb hts hin ty0 hty hnm hown hK hM hS0 (hTM.1 _ _ he) hc k hk hlink hsame hfin hd hn hfit hl hdg (fun H1 locs1 hM1 hS1 => kk H1 locs1 ⟨_, bk, hM1, hTM.put he _⟩ hS1)
theorem zt_putF (hexec : p.tables.exec = Jvm.exec) (hb : c.code = cc) {own ref C : String} {T0 : u_T} {N ci index : Nat} {Ts : List Cond} (hts : ∀ w ∈ Ts, w.before args s = true) (hin : ∀ w ∈ u_ws C T0 N, w ∈ Ts) (ty0 : Nat → FieldType) (hty : ∀ k, k < N → parseFieldDescriptor (T0 k).2.2.1 = some (ty0 k)) (hnm : ∀ a, a < N → ∀ b, b < N → a ≠ b → (T0 a).2.1 ≠ (T0 b).2.1) (hown : s.vm.findClass own = some m.cls) (hK : va_K g.1 zCl (zTy g) s) (hT : zTH g A T H) (hS0 : va_S A H0 H locs) {fs : List Value} (he : T a = some (.inl (.inr (ci, fs)))) (hc : zCl[ci]? = some (C, T0, N)) (k : Nat) (hk : k < N) (hlink : (Cond.fieldLink own index ref (T0 k).2.1 (T0 k).2.2.1).before args s = true) (hsame : ∀ x, s.fieldFound? (T0 k).1 (T0 k).2.1 (T0 k).2.2.1 = some x → s.fieldFound? ref (T0 k).2.1 (T0 k).2.2.1 = some x) (hfin : (T0 k).2.2.2 = true) (hin2 : meth.name = "<init>") (hdecl : (T0 k).1 = own) {ty : FieldType} {v : Value} (hd : parseFieldDescriptor (T0 k).2.2.1 = some ty) (hn : narrow ty v = v) (hfit : fits ty v = true) (hl : k < fs.length)
    (hdg : decode cc pc = .ok (.putfield index, 3)) (kk : ∀ (H1 : Heap) (locs1 : List Loc), zTH g A (va_up T a (some (.inl (.inr (ci, fs.set k v))))) H1 → va_S A H0 H1 locs1 → W p l e R s m args below meth c H1 locs1 cells slots Q (F0 m (pc + 3) ls rest)) : W p l e R s m args below meth c H locs cells slots Q (F0 m pc ls (v :: .ref a :: rest)) := by
  obtain ⟨M, bk, hM, hTM⟩ := hT
  exact zm_putF hexec hb hts hin ty0 hty hnm hown hK hM hS0 (hTM.1 _ _ he) hc k hk hlink hsame hfin hin2 hdecl hd hn hfit hl hdg (fun H1 locs1 hM1 hS1 => kk H1 locs1 ⟨_, bk, hM1, hTM.put he _⟩ hS1)
theorem zt_putN (hexec : p.tables.exec = Jvm.exec) (hb : c.code = cc) {own ref C : String} {T0 : u_T} {N ci index : Nat} {Ts : List Cond} (hts : ∀ w ∈ Ts, w.before args s = true) (hin : ∀ w ∈ u_ws C T0 N, w ∈ Ts) {host : String} (ty0 : Nat → FieldType) (hty : ∀ k, k < N → parseFieldDescriptor (T0 k).2.2.1 = some (ty0 k)) (hnm : ∀ a, a < N → ∀ b, b < N → a ≠ b → (T0 a).2.1 ≠ (T0 b).2.1) (hown : s.vm.findClass own = some m.cls) (hK : va_K g.1 zCl (zTy g) s) (hT : zTH g A T H) (hS0 : va_S A H0 H locs) {fs : List Value} (he : T a = some (.inl (.inr (ci, fs)))) (hc : zCl[ci]? = some (C, T0, N)) (k : Nat) (hk : k < N) (hlink : (Cond.fieldLinkNest own index ref (T0 k).2.1 (T0 k).2.2.1 host).before args s = true) (hsame : ∀ x, s.fieldFound? (T0 k).1 (T0 k).2.1 (T0 k).2.2.1 = some x → s.fieldFound? ref (T0 k).2.1 (T0 k).2.2.1 = some x) (hfin : (T0 k).2.2.2 = false) {ty : FieldType} {v : Value} (hd : parseFieldDescriptor (T0 k).2.2.1 = some ty) (hn : narrow ty v = v) (hfit : fits ty v = true) (hl : k < fs.length)
    (hdg : decode cc pc = .ok (.putfield index, 3)) (kk : ∀ (H1 : Heap) (locs1 : List Loc), zTH g A (va_up T a (some (.inl (.inr (ci, fs.set k v))))) H1 → va_S A H0 H1 locs1 → W p l e R s m args below meth c H1 locs1 cells slots Q (F0 m (pc + 3) ls rest)) : W p l e R s m args below meth c H locs cells slots Q (F0 m pc ls (v :: .ref a :: rest)) := by
  obtain ⟨M, bk, hM, hTM⟩ := hT
  exact zm_putN hexec hb hts hin ty0 hty hnm hown hK hM hS0 (hTM.1 _ _ he) hc k hk hlink hsame hfin hd hn hfit hl hdg (fun H1 locs1 hM1 hS1 => kk H1 locs1 ⟨_, bk, hM1, hTM.put he _⟩ hS1)
theorem zt_ild (hexec : p.tables.exec = Jvm.exec) (hb : c.code = cc) (hK : va_K g.1 zCl (zTy g) s) (hT : zTH g A T H) {n : Nat} {f : Nat → Int32} (ha : T a = some (.inl (zI g n f))) {k : Nat} (hk : k < n) (hn : n < 2 ^ 31) (hdg : decode cc pc = .ok (.iaload, 1))
    (kk : W p l e R s m args below meth c H locs cells slots Q (F0 m (pc + 1) ls (.int (f k) :: rest))) : W p l e R s m args below meth c H locs cells slots Q (F0 m pc ls (.int (nI k) :: .ref a :: rest)) := by
  obtain ⟨M, bk, hM, hTM⟩ := hT
  exact zm_ild hexec hb hK hM (hTM.1 _ _ ha) hk hn hdg kk
theorem zt_zld (hexec : p.tables.exec = Jvm.exec) (hb : c.code = cc) (hK : va_K g.1 zCl (zTy g) s) (hT : zTH g A T H) {n : Nat} {f : Nat → Int32} (ha : T a = some (.inl (zZ g n f))) {k : Nat} (hk : k < n) (hn : n < 2 ^ 31) (hdg : decode cc pc = .ok (.baload, 1))
    (kk : W p l e R s m args below meth c H locs cells slots Q (F0 m (pc + 1) ls (.int (f k) :: rest))) : W p l e R s m args below meth c H locs cells slots Q (F0 m pc ls (.int (nI k) :: .ref a :: rest)) := by
  obtain ⟨M, bk, hM, hTM⟩ := hT
  exact zm_zld hexec hb hK hM (hTM.1 _ _ ha) hk hn hdg kk
theorem zt_lld (hexec : p.tables.exec = Jvm.exec) (hb : c.code = cc) (hK : va_K g.1 zCl (zTy g) s) (hT : zTH g A T H) {n : Nat} {f : Nat → Int64} (ha : T a = some (.inl (zJ g n f))) {k : Nat} (hk : k < n) (hn : n < 2 ^ 31) (hdg : decode cc pc = .ok (.laload, 1))
    (kk : W p l e R s m args below meth c H locs cells slots Q (F0 m (pc + 1) ls (.long (f k) :: rest))) : W p l e R s m args below meth c H locs cells slots Q (F0 m pc ls (.int (nI k) :: .ref a :: rest)) := by
  obtain ⟨M, bk, hM, hTM⟩ := hT
  exact zm_lld hexec hb hK hM (hTM.1 _ _ ha) hk hn hdg kk
theorem zt_ist (hexec : p.tables.exec = Jvm.exec) (hb : c.code = cc) (hK : va_K g.1 zCl (zTy g) s) (hT : zTH g A T H) (hS : va_S A H0 H locs) {n : Nat} {f : Nat → Int32} (ha : T a = some (.inl (zI g n f))) {k : Nat} {x : Int32} (hk : k < n) (hn : n < 2 ^ 31) (hdg : decode cc pc = .ok (.iastore, 1))
    (kk : ∀ (H1 : Heap) (locs1 : List Loc), zTH g A (va_up T a (some (.inl (zI g n (va_up f k x))))) H1 → va_S A H0 H1 locs1 → W p l e R s m args below meth c H1 locs1 cells slots Q (F0 m (pc + 1) ls rest)) : W p l e R s m args below meth c H locs cells slots Q (F0 m pc ls (.int x :: .int (nI k) :: .ref a :: rest)) := by
  obtain ⟨M, bk, hM, hTM⟩ := hT
  exact zm_ist hexec hb hK hM hS (hTM.1 _ _ ha) hk hn hdg (fun H1 locs1 hM1 hS1 => kk H1 locs1 ⟨_, bk, hM1, hTM.put ha _⟩ hS1)
theorem zt_zst (hexec : p.tables.exec = Jvm.exec) (hb : c.code = cc) (hK : va_K g.1 zCl (zTy g) s) (hT : zTH g A T H) (hS : va_S A H0 H locs) {n : Nat} {f : Nat → Int32} (ha : T a = some (.inl (zZ g n f))) {k : Nat} {x : Int32} (hk : k < n) (hn : n < 2 ^ 31) (hx : x = 0 ∨ x = 1) (hdg : decode cc pc = .ok (.bastore, 1))
    (kk : ∀ (H1 : Heap) (locs1 : List Loc), zTH g A (va_up T a (some (.inl (zZ g n (va_up f k x))))) H1 → va_S A H0 H1 locs1 → W p l e R s m args below meth c H1 locs1 cells slots Q (F0 m (pc + 1) ls rest)) : W p l e R s m args below meth c H locs cells slots Q (F0 m pc ls (.int x :: .int (nI k) :: .ref a :: rest)) := by
  obtain ⟨M, bk, hM, hTM⟩ := hT
  exact zm_zst hexec hb hK hM hS (hTM.1 _ _ ha) hk hn hx hdg (fun H1 locs1 hM1 hS1 => kk H1 locs1 ⟨_, bk, hM1, hTM.put ha _⟩ hS1)
theorem zt_lst (hexec : p.tables.exec = Jvm.exec) (hb : c.code = cc) (hK : va_K g.1 zCl (zTy g) s) (hT : zTH g A T H) (hS : va_S A H0 H locs) {n : Nat} {f : Nat → Int64} (ha : T a = some (.inl (zJ g n f))) {k : Nat} {x : Int64} (hk : k < n) (hn : n < 2 ^ 31) (hdg : decode cc pc = .ok (.lastore, 1))
    (kk : ∀ (H1 : Heap) (locs1 : List Loc), zTH g A (va_up T a (some (.inl (zJ g n (va_up f k x))))) H1 → va_S A H0 H1 locs1 → W p l e R s m args below meth c H1 locs1 cells slots Q (F0 m (pc + 1) ls rest)) : W p l e R s m args below meth c H locs cells slots Q (F0 m pc ls (.long x :: .int (nI k) :: .ref a :: rest)) := by
  obtain ⟨M, bk, hM, hTM⟩ := hT
  exact zm_lst hexec hb hK hM hS (hTM.1 _ _ ha) hk hn hdg (fun H1 locs1 hM1 hS1 => kk H1 locs1 ⟨_, bk, hM1, hTM.put ha _⟩ hS1)
theorem zt_alen (hexec : p.tables.exec = Jvm.exec) (hb : c.code = cc) (hK : va_K g.1 zCl (zTy g) s) (hT : zTH g A T H) (t0 : Nat) {cA : ClassId} {x : vp_A} {ty : FieldType} (ha : T a = some (.inl (.inl (cA, x)))) (ht : (zTy g)[t0]? = some (cA, ty)) (hdg : decode cc pc = .ok (.arraylength, 1))
    (kk : W p l e R s m args below meth c H locs cells slots Q (F0 m (pc + 1) ls (.int (nI x.1) :: rest))) : W p l e R s m args below meth c H locs cells slots Q (F0 m pc ls (.ref a :: rest)) := by
  obtain ⟨M, bk, hM, hTM⟩ := hT
  exact zm_alen hexec hb hK hM t0 (hTM.1 _ _ ha) ht hdg kk
/-- a new object -/
theorem zt_new (hexec : p.tables.exec = Jvm.exec) (hb : c.code = cc) {own C : String} {T0 : u_T} {N ci index : Nat} {Ts : List Cond} (hts : ∀ w ∈ Ts, w.before args s = true) (hin : ∀ w ∈ u_ws C T0 N, w ∈ Ts) (ty : Nat → FieldType) (hty : ∀ k, k < N → parseFieldDescriptor (T0 k).2.2.1 = some (ty k)) (hown : s.vm.findClass own = some m.cls) (hcl : (Cond.classLink own index C).before args s = true) (hinst : (Cond.instantiable C N).before args s = true) (hini : (Cond.initialized C).before args s = true)
    (hK : va_K g.1 zCl (zTy g) s) (hT : zTH g A T H) (hS : va_S A H0 H locs) (hc : zCl[ci]? = some (C, T0, N)) {fs : List Value} (hfs : ∀ j, j < N → defaultValue (ty j) = vp_V fs j) (hcells : cells + 1 ≤ R.cells) (hslots : slots + N ≤ R.slots) (hdg : decode cc pc = .ok (.new index, 3))
    (kk : ∀ (q : Nat) (H1 : Heap), T q = none → zTH g A (va_up T q (some (.inl (.inr (ci, fs))))) H1 → va_S A H0 H1 locs →
      W p l e R s m args below meth c H1 locs (cells + 1) (slots + N) Q (F0 m (pc + 3) ls (.ref q :: rest))) : W p l e R s m args below meth c H locs cells slots Q (F0 m pc ls rest) := by
  have hKn := hK.1 ci _ hc
  obtain ⟨M, bk, hM, hTM⟩ := hT
  refine W.newcK hexec hb hown hcl hinst hini rfl hdg hcells hslots hKn.2.1 rfl fun H1 kC hkC e1 z1 o1 => ?_
  have hM1 : zMH g A (va_up M H.size (some (.inr (ci, fs)))) H1 := hM.push ⟨_, hc, (u_born ty hts hin hKn hkC e1 hty).to hfs⟩ z1 o1
  exact kk H.size H1 (hTM.nil hM.new) ⟨_, bk, hM1, hTM.push hM.new (hM.ne0 (hM.2.2.1 _ (Nat.le_refl _))) _⟩ (hS.grow (by omega) o1)
theorem zt_newI (hexec : p.tables.exec = Jvm.exec) (hb : c.code = cc) (harr : (Cond.arrayClass .int).before args s = true) (hK : va_K g.1 zCl (zTy g) s) (hT : zTH g A T H) (hS : va_S A H0 H locs)
    {n : Nat} (hn : n ≤ 60000) (hcells : cells + 1 ≤ R.cells) (hslots : slots + n ≤ R.slots) (hdg : decode cc pc = .ok (.newarray .int, 2))
    (kk : ∀ (q : Nat) (H1 : Heap), T q = none → zTH g A (va_up T q (some (.inl (zI g n (fun _ => 0))))) H1 → va_S A H0 H1 locs → W p l e R s m args below meth c H1 locs (cells + 1) (slots + n) Q (F0 m (pc + 2) ls (.ref q :: rest))) : W p l e R s m args below meth c H locs cells slots Q (F0 m pc ls (.int (nI n) :: rest)) := by
  obtain ⟨M, bk, hM, hTM⟩ := hT
  refine va_newaK (atype := .int) hexec hb harr rfl hdg rfl (nI_pos (by omega)) (nI_clamp (by omega)) (by show n * 4 ≤ 536870912; omega) hcells hslots rfl fun H1 cA e1 z1 o1 hAr hNm => ?_
  have hcA : (zTy g)[0]? = some (cA, .int) := by
    have h2 := (hK.2 0 _ rfl).2
    have h3 : s.vm.findClass ("[" ++ (FieldType.int).toString) = some _ := h2
    have h4 : cA = _ := Option.some.inj (hNm.symm.trans h3)
    rw [h4]; rfl
  have hcA : cA = _ := (congrArg Prod.fst (Option.some.inj hcA)).symm
  subst hcA
  have hM1 : zMH g A (va_up M H.size (some (zI g n (fun _ => 0)))) H1 := hM.push (by show H1[H.size]? = some (vp_cell _ _); rw [vp_cell_i]; exact e1) z1 o1
  exact kk H.size H1 (hTM.nil hM.new) ⟨_, bk, hM1, hTM.push hM.new (hM.ne0 (hM.2.2.1 _ (Nat.le_refl _))) _⟩ (hS.grow (by omega) o1)
theorem zt_newZ (hexec : p.tables.exec = Jvm.exec) (hb : c.code = cc) (harr : (Cond.arrayClass .boolean).before args s = true) (hK : va_K g.1 zCl (zTy g) s) (hT : zTH g A T H) (hS : va_S A H0 H locs)
    {n : Nat} (hn : n ≤ 60000) (hcells : cells + 1 ≤ R.cells) (hslots : slots + n ≤ R.slots) (hdg : decode cc pc = .ok (.newarray .boolean, 2))
    (kk : ∀ (q : Nat) (H1 : Heap), T q = none → zTH g A (va_up T q (some (.inl (zZ g n (fun _ => 0))))) H1 → va_S A H0 H1 locs → W p l e R s m args below meth c H1 locs (cells + 1) (slots + n) Q (F0 m (pc + 2) ls (.ref q :: rest))) : W p l e R s m args below meth c H locs cells slots Q (F0 m pc ls (.int (nI n) :: rest)) := by
  obtain ⟨M, bk, hM, hTM⟩ := hT
  refine va_newaK (atype := .boolean) hexec hb harr rfl hdg rfl (nI_pos (by omega)) (nI_clamp (by omega)) (by show n * 1 ≤ 536870912; omega) hcells hslots rfl fun H1 cA e1 z1 o1 hAr hNm => ?_
  have hcA : (zTy g)[1]? = some (cA, .boolean) := by
    have h2 := (hK.2 1 _ rfl).2
    have h3 : s.vm.findClass ("[" ++ (FieldType.boolean).toString) = some _ := h2
    have h4 : cA = _ := Option.some.inj (hNm.symm.trans h3)
    rw [h4]; rfl
  have hcA : cA = _ := (congrArg Prod.fst (Option.some.inj hcA)).symm
  subst hcA
  have hM1 : zMH g A (va_up M H.size (some (zZ g n (fun _ => 0)))) H1 := hM.push (by show H1[H.size]? = some (vp_cell _ _); rw [vp_cell_i]; exact e1) z1 o1
  exact kk H.size H1 (hTM.nil hM.new) ⟨_, bk, hM1, hTM.push hM.new (hM.ne0 (hM.2.2.1 _ (Nat.le_refl _))) _⟩ (hS.grow (by omega) o1)
theorem zt_newJ (hexec : p.tables.exec = Jvm.exec) (hb : c.code = cc) (harr : (Cond.arrayClass .long).before args s = true) (hK : va_K g.1 zCl (zTy g) s) (hT : zTH g A T H) (hS : va_S A H0 H locs)
    {n : Nat} (hn : n ≤ 60000) (hcells : cells + 1 ≤ R.cells) (hslots : slots + n ≤ R.slots) (hdg : decode cc pc = .ok (.newarray .long, 2))
    (kk : ∀ (q : Nat) (H1 : Heap), T q = none → zTH g A (va_up T q (some (.inl (zJ g n (fun _ => 0))))) H1 → va_S A H0 H1 locs → W p l e R s m args below meth c H1 locs (cells + 1) (slots + n) Q (F0 m (pc + 2) ls (.ref q :: rest))) : W p l e R s m args below meth c H locs cells slots Q (F0 m pc ls (.int (nI n) :: rest)) := by
  obtain ⟨M, bk, hM, hTM⟩ := hT
  refine va_newaK (atype := .long) hexec hb harr rfl hdg rfl (nI_pos (by omega)) (nI_clamp (by omega)) (by show n * 8 ≤ 536870912; omega) hcells hslots rfl fun H1 cA e1 z1 o1 hAr hNm => ?_
  have hcA : (zTy g)[2]? = some (cA, .long) := by
    have h2 := (hK.2 2 _ rfl).2
    have h3 : s.vm.findClass ("[" ++ (FieldType.long).toString) = some _ := h2
    have h4 : cA = _ := Option.some.inj (hNm.symm.trans h3)
    rw [h4]; rfl
  have hcA : cA = _ := (congrArg Prod.fst (Option.some.inj hcA)).symm
  subst hcA
  have hM1 : zMH g A (va_up M H.size (some (zJ g n (fun _ => 0)))) H1 := hM.push (by show H1[H.size]? = some (vp_cell _ _); rw [vp_cell_l]; exact e1) z1 o1
  exact kk H.size H1 (hTM.nil hM.new) ⟨_, bk, hM1, hTM.push hM.new (hM.ne0 (hM.2.2.1 _ (Nat.le_refl _))) _⟩ (hS.grow (by omega) o1)
end ZT
