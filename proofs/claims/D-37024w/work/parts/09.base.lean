/-! THE HEAP AS A MAP: M sends an address to what lies there (an object of one of zCl, an array); T does the same, with a list (java.util.ArrayList) as one cell. -/
/-- a cell as the program sees it: an array or object, or a list with its modCount and its elements -/
abbrev zE : Type := va_E ⊕ (Int32 × List (Option Nat))
abbrev zT : Type := Nat → Option zE
/-- the run's constants: classes and slots; the array classes of int, boolean, long, Object; the empty array of ArrayList; the class object of Object[] -/
abbrev zG : Type := va_G × (ClassId × ClassId × ClassId × ClassId) × Nat × Nat
/-- 0 WheelWorks 1 Rack 2 Model 3 Part 4 Trail 5 Work 6 W$1 7 W$2 8 Coming 9 ArrayList 10 Itr -/
abbrev zCl : List vw_C := [(RX1, TX1, 10), (RX2, TX2, 1), (RX3, TX3, 33), (RX4, TX4, 20), (RX5, TX5, 2), (RX6, TX6, 3), (RX7, TX7, 2), (RX8, TX8, 3), (RX9, TX9, 2), (RJ2, TJ2, 3), (RJ16, TJ16, 4)]
abbrev zTy (g : zG) : List (ClassId × FieldType) := [(g.2.1.1, .int), (g.2.1.2.1, .boolean), (g.2.1.2.2.1, .long), (g.2.1.2.2.2, .object "java/lang/Object")]
abbrev zd0 (g : zG) : Nat := g.2.2.1
abbrev zmi (g : zG) : Nat := g.2.2.2
abbrev zo (ci : Nat) (fs : List Value) : va_E := .inr (ci, fs)
abbrev zI (g : zG) (n : Nat) (f : Nat → Int32) : va_E := .inl (g.2.1.1, n, .inl f)
abbrev zZ (g : zG) (n : Nat) (f : Nat → Int32) : va_E := .inl (g.2.1.2.1, n, .inl f)
abbrev zJ (g : zG) (n : Nat) (f : Nat → Int64) : va_E := .inl (g.2.1.2.2.1, n, .inr (.inl f))
abbrev zQ (g : zG) (n : Nat) (f : Nat → Option Nat) : va_E := .inl (g.2.1.2.2.2, n, .inr (.inr (.inr (.inr f))))
/-- ArrayList's empty array, a static of the JDK's: of its cell no more is known than its class and that it is empty -/
def zE0 (g : zG) (H : Heap) : Prop := ∃ cell : Cell, H[zd0 g]? = some cell ∧ cell.cls = g.2.1.2.2.2 ∧ cell.slots.size = 0 ∧ ∀ k, cell.vm ≠ .statics k
def zat (g : zG) (a : Nat) (e : va_E) (H : Heap) : Prop := (a ≠ zd0 g → va_at g.1 zCl (a, e) H) ∧ (a = zd0 g → zE0 g H)
theorem zat.kept {g : zG} {a : Nat} {e : va_E} {H H1 : Heap} (h : zat g a e H) (hk : H1[a]? = H[a]?) : zat g a e H1 :=
  ⟨fun q => (h.1 q).kept hk, fun q => by subst q; obtain ⟨cell, h1, h2⟩ := h.2 rfl; exact ⟨cell, hk.trans h1, h2⟩⟩
theorem zat.lt {g : zG} {a : Nat} {e : va_E} {H : Heap} (h : zat g a e H) : a < H.size := by
  by_cases q : a = zd0 g
  · subst q
    obtain ⟨cell, h1, h2⟩ := h.2 rfl
    exact (Array.getElem?_eq_some_iff.mp h1).1
  · exact (h.1 q).lt
def zMH (g : zG) (A : Nat → Prop) (M : Nat → Option va_E) (H : Heap) : Prop :=
  (∀ a e, M a = some e → zat g a e H) ∧ (∀ a e, M a = some e → a ≠ zd0 g → A a) ∧ (∀ q, H.size ≤ q → A q) ∧ M (zd0 g) = some (zQ g 0 (fun _ => none)) ∧ ¬ A (zd0 g)
theorem zMH.oneV {g : zG} {H : Heap} {a : Nat} {e : va_E} (ha : va_at g.1 zCl (a, e) H) : va_P g.1 zCl [(a, e)] H := by
  intro k q hk
  have hz : k < 1 := (List.getElem?_eq_some_iff.mp hk).1
  rw [show k = 0 by omega] at hk
  cases hk
  exact ha
/-- an object; an array that isn't empty -/
theorem zMH.ob {g : zG} {A : Nat → Prop} {M : Nat → Option va_E} {H : Heap} (h : zMH g A M H) {a : Nat} {o : Nat × List Value} (ha : M a = some (.inr o)) : va_at g.1 zCl (a, .inr o) H :=
  (h.1 a _ ha).1 (fun q => by subst q; have := ha.symm.trans h.2.2.2.1; cases this)
theorem zMH.ar {g : zG} {A : Nat → Prop} {M : Nat → Option va_E} {H : Heap} (h : zMH g A M H) {a n : Nat} {c : ClassId} {x : (Nat → Int32) ⊕ (Nat → Int64) ⊕ (Nat → UInt32) ⊕ (Nat → UInt64) ⊕ (Nat → Option Nat)} (ha : M a = some (.inl (c, n, x))) (hn : 0 < n) : va_at g.1 zCl (a, .inl (c, n, x)) H :=
  (h.1 a _ ha).1 (fun q => by subst q; have := ha.symm.trans h.2.2.2.1; cases this; omega)
theorem zMH.arA {g : zG} {A : Nat → Prop} {M : Nat → Option va_E} {H : Heap} (h : zMH g A M H) {a : Nat} {e : va_E} (ha : M a = some e) (hA : A a) : va_at g.1 zCl (a, e) H :=
  (h.1 a _ ha).1 (fun q => h.2.2.2.2 (by rw [← q]; exact hA))
theorem zMH.one {g : zG} {A : Nat → Prop} {M : Nat → Option va_E} {H : Heap} (h : zMH g A M H) {a : Nat} {o : Nat × List Value} (ha : M a = some (.inr o)) : va_P g.1 zCl [(a, .inr o)] H := zMH.oneV (h.ob ha)
theorem zMH.oneA {g : zG} {A : Nat → Prop} {M : Nat → Option va_E} {H : Heap} (h : zMH g A M H) {a n : Nat} {c : ClassId} {x : (Nat → Int32) ⊕ (Nat → Int64) ⊕ (Nat → UInt32) ⊕ (Nat → UInt64) ⊕ (Nat → Option Nat)} (ha : M a = some (.inl (c, n, x))) {k : Nat} (hn : k < n) : va_P g.1 zCl [(a, .inl (c, n, x))] H := zMH.oneV (h.ar ha (Nat.lt_of_le_of_lt (Nat.zero_le k) hn))
theorem zMH.lt {g : zG} {A : Nat → Prop} {M : Nat → Option va_E} {H : Heap} (h : zMH g A M H) {a : Nat} {e : va_E} (ha : M a = some e) : a < H.size := (h.1 a e ha).lt
theorem zMH.own {g : zG} {A : Nat → Prop} {M : Nat → Option va_E} {H : Heap} (h : zMH g A M H) {a ci : Nat} {fs : List Value} (ha : M a = some (.inr (ci, fs))) : A a := by
  refine h.2.1 a _ ha (fun q => ?_)
  subst q
  have := ha.symm.trans h.2.2.2.1
  cases this
theorem zMH.ownA {g : zG} {A : Nat → Prop} {M : Nat → Option va_E} {H : Heap} (h : zMH g A M H) {a n : Nat} {c : ClassId} {x : (Nat → Int32) ⊕ (Nat → Int64) ⊕ (Nat → UInt32) ⊕ (Nat → UInt64) ⊕ (Nat → Option Nat)} (ha : M a = some (.inl (c, n, x))) (hn : 0 < n) : A a := by
  refine h.2.1 a _ ha (fun q => ?_)
  subst q
  have := ha.symm.trans h.2.2.2.1
  cases this
  omega
theorem zMH.ne0 {g : zG} {A : Nat → Prop} {M : Nat → Option va_E} {H : Heap} (h : zMH g A M H) {a : Nat} (hA : A a) : zd0 g ≠ a := fun q => h.2.2.2.2 (by rw [q]; exact hA)
/-- one cell written -/
theorem zMH.up {g : zG} {A : Nat → Prop} {M : Nat → Option va_E} {H H1 : Heap} (h : zMH g A M H) {a : Nat} {e : va_E} (hA : A a) (he : va_at g.1 zCl (a, e) H1) (hz : H1.size = H.size) (oq : ∀ q : Nat, q ≠ a → H1[q]? = H[q]?) : zMH g A (va_up M a (some e)) H1 := by
  refine ⟨fun b e1 hb => ?_, fun b e1 hb hne => ?_, fun q hq => h.2.2.1 q (by rw [hz] at hq; exact hq), ?_, h.2.2.2.2⟩
  · by_cases hba : b = a
    · subst hba
      rw [va_up_self] at hb
      cases hb
      exact ⟨fun _ => he, fun q => absurd q.symm (h.ne0 hA)⟩
    · rw [va_up_ne _ _ hba] at hb
      exact (h.1 b e1 hb).kept (oq b hba)
  · by_cases hba : b = a
    · subst hba; exact hA
    · rw [va_up_ne _ _ hba] at hb
      exact h.2.1 b e1 hb hne
  · rw [va_up_ne _ _ (h.ne0 hA)]
    exact h.2.2.2.1
/-- one cell made -/
theorem zMH.push {g : zG} {A : Nat → Prop} {M : Nat → Option va_E} {H H1 : Heap} (h : zMH g A M H) {e : va_E} (he : va_at g.1 zCl (H.size, e) H1) (hz : H1.size = H.size + 1) (oq : ∀ q : Nat, q < H.size → H1[q]? = H[q]?) : zMH g A (va_up M H.size (some e)) H1 := by
  have hA : A H.size := h.2.2.1 _ (Nat.le_refl _)
  refine ⟨fun b e1 hb => ?_, fun b e1 hb hne => ?_, fun q hq => h.2.2.1 q (by omega), ?_, h.2.2.2.2⟩
  · by_cases hba : b = H.size
    · subst hba
      rw [va_up_self] at hb
      cases hb
      exact ⟨fun _ => he, fun q => absurd q.symm (h.ne0 hA)⟩
    · rw [va_up_ne _ _ hba] at hb
      exact (h.1 b e1 hb).kept (oq b (h.lt hb))
  · by_cases hba : b = H.size
    · subst hba; exact hA
    · rw [va_up_ne _ _ hba] at hb
      exact h.2.1 b e1 hb hne
  · rw [va_up_ne _ _ (h.ne0 hA)]
    exact h.2.2.2.1
theorem zMH.new {g : zG} {A : Nat → Prop} {M : Nat → Option va_E} {H : Heap} (h : zMH g A M H) : M H.size = none := by
  cases hm : M H.size with
  | none => rfl
  | some e => exact absurd (h.lt hm) (Nat.lt_irrefl _)
/-- the heap has grown, and kept the map's cells -/
theorem zMH.kept {g : zG} {A : Nat → Prop} {M : Nat → Option va_E} {H H1 : Heap} (h : zMH g A M H) (hz : H.size ≤ H1.size) (oq : ∀ q : Nat, q < H.size → H1[q]? = H[q]?) : zMH g A M H1 :=
  ⟨fun a e ha => (h.1 a e ha).kept (oq a (h.lt ha)), h.2.1, fun q hq => h.2.2.1 q (Nat.le_trans hz hq), h.2.2.2⟩
theorem va_S.grow {A : Nat → Prop} {H0 H H1 : Heap} {locs : List Loc} (hS : va_S A H0 H locs) (hz : H.size ≤ H1.size) (oq : ∀ q : Nat, q < H.size → H1[q]? = H[q]?) : va_S A H0 H1 locs :=
  ⟨Nat.le_trans hS.1 hz, fun x h1 h2 => (oq x (Nat.lt_of_lt_of_le h1 hS.1)).trans (hS.2.1 x h1 h2), hS.2.2⟩
section ZM
variable {p : Program} {l : Launch} {e : Env} {R : Room} {s : State} {m : MethodId} {args : Array Value} {below : List Frame} {meth : Method} {c : Code} {H : Heap} {locs : List Loc} {cells slots : Nat} {Q : State → Prop}
variable {cc : ByteArray} {pc : Nat} {ls : Array Slot} {rest : List Value} {g : zG} {A : Nat → Prop} {a : Nat} {M : Nat → Option va_E} {H0 : Heap}
/-- the value on top, by another name -/
theorem zm_top {v v' : Value} (h : v = v') (k : W p l e R s m args below meth c H locs cells slots Q (F0 m pc ls (v' :: rest))) : W p l e R s m args below meth c H locs cells slots Q (F0 m pc ls (v :: rest)) := by
  subst h; exact k
theorem zm_topi {x y : Int32} (h : x = y) (k : W p l e R s m args below meth c H locs cells slots Q (F0 m pc ls (.int y :: rest))) : W p l e R s m args below meth c H locs cells slots Q (F0 m pc ls (.int x :: rest)) := by
  subst h; exact k
theorem zm_get (hexec : p.tables.exec = Jvm.exec) (hb : c.code = cc) {own ref C : String} {T : u_T} {N ci index : Nat} {Ts : List Cond} (hts : ∀ w ∈ Ts, w.before args s = true) (hin : ∀ w ∈ u_ws C T N, w ∈ Ts) (hown : s.vm.findClass own = some m.cls) (hK : va_K g.1 zCl (zTy g) s) (hM : zMH g A M H) {fs : List Value} (he : M a = some (.inr (ci, fs))) (hc : zCl[ci]? = some (C, T, N)) (k : Nat) (hk : k < N) (hlink : (Cond.fieldLink own index ref (T k).2.1 (T k).2.2.1).before args s = true) (hsame : ∀ x, s.fieldFound? (T k).1 (T k).2.1 (T k).2.2.1 = some x → s.fieldFound? ref (T k).2.1 (T k).2.2.1 = some x) {v : Value} (hv : fs[k]? = some v) (hdg : decode cc pc = .ok (.getfield index, 3))
    (kk : W p l e R s m args below meth c H locs cells slots Q (F0 m (pc + 3) ls (v :: rest))) : W p l e R s m args below meth c H locs cells slots Q (F0 m pc ls (.ref a :: rest)) :=
  va_get hexec hb hts hin hown hK (hM.one he) 0 rfl hc k hk hlink hsame hv hdg kk
theorem zm_getN (hexec : p.tables.exec = Jvm.exec) (hb : c.code = cc) {own ref C host : String} {T : u_T} {N ci index : Nat} {Ts : List Cond} (hts : ∀ w ∈ Ts, w.before args s = true) (hin : ∀ w ∈ u_ws C T N, w ∈ Ts) (hown : s.vm.findClass own = some m.cls) (hK : va_K g.1 zCl (zTy g) s) (hM : zMH g A M H) {fs : List Value} (he : M a = some (.inr (ci, fs))) (hc : zCl[ci]? = some (C, T, N)) (k : Nat) (hk : k < N) (hlink : (Cond.fieldLinkNest own index ref (T k).2.1 (T k).2.2.1 host).before args s = true) (hsame : ∀ x, s.fieldFound? (T k).1 (T k).2.1 (T k).2.2.1 = some x → s.fieldFound? ref (T k).2.1 (T k).2.2.1 = some x) {v : Value} (hv : fs[k]? = some v) (hdg : decode cc pc = .ok (.getfield index, 3))
    (kk : W p l e R s m args below meth c H locs cells slots Q (F0 m (pc + 3) ls (v :: rest))) : W p l e R s m args below meth c H locs cells slots Q (F0 m pc ls (.ref a :: rest)) :=
  va_getN hexec hb hts hin hown hK (hM.one he) 0 rfl hc k hk hlink hsame hv hdg kk
/-- what a field's store needs of the cell, and what it leaves -/
theorem zm_fld {own C : String} {T : u_T} {N ci : Nat} {Ts : List Cond} (hts : ∀ w ∈ Ts, w.before args s = true) (hin : ∀ w ∈ u_ws C T N, w ∈ Ts) (ty0 : Nat → FieldType) (hty : ∀ k, k < N → parseFieldDescriptor (T k).2.2.1 = some (ty0 k)) (hnm : ∀ a, a < N → ∀ b, b < N → a ≠ b → (T a).2.1 ≠ (T b).2.1) (hK : va_K g.1 zCl (zTy g) s) (hM : zMH g A M H) {fs : List Value} (he : M a = some (.inr (ci, fs))) (hc : zCl[ci]? = some (C, T, N)) {k : Nat} (hk : k < N) (hl : k < fs.length) :
    ∃ (cell : Cell) (cf : ClassId) (kf : Class) (fi : Nat) (f : Field), H[a]? = some cell ∧ cell.cls = g.1.1 ci ∧ cell.vm = .none ∧ s.fieldFound? (T k).1 (T k).2.1 (T k).2.2.1 = some (cf, kf, fi, f) ∧ f.slot < cell.slots.size ∧ ∀ (v : Value) (H1 : Heap), H1[a]? = some (cell.setSlot f.slot v) → va_at g.1 zCl (a, .inr (ci, fs.set k v)) H1 := by
  have hap := va_apart (own := own) hts hin ty0 hty hnm hK hc
  obtain ⟨r, h1, cell, q1, q2, q3, q4⟩ := hM.ob he
  have hr : r = (C, T, N) := Option.some.inj (h1.symm.trans hc)
  subst hr
  obtain ⟨hS, hfc, kC, hkC, hkind⟩ := hK.1 ci _ hc
  obtain ⟨cf, kf, fi, f, hi, hsl⟩ := hS k hk
  refine ⟨cell, cf, kf, fi, f, q1, q2, q3, hi, by rw [hsl]; exact k2_hasslot (q4 k hk), fun v H1 e1 => ?_⟩
  rw [hsl] at e1
  exact ⟨_, hc, t_OB.to (V := updV (vp_V fs) k v) ⟨_, e1, q2, q3, t_set q4 hap hk v⟩ (fun j _ => vp_updV_set hl v j)⟩
theorem zm_put (hexec : p.tables.exec = Jvm.exec) (hb : c.code = cc) {own ref C : String} {T : u_T} {N ci index : Nat} {Ts : List Cond} (hts : ∀ w ∈ Ts, w.before args s = true) (hin : ∀ w ∈ u_ws C T N, w ∈ Ts) (ty0 : Nat → FieldType) (hty : ∀ k, k < N → parseFieldDescriptor (T k).2.2.1 = some (ty0 k)) (hnm : ∀ a, a < N → ∀ b, b < N → a ≠ b → (T a).2.1 ≠ (T b).2.1) (hown : s.vm.findClass own = some m.cls) (hK : va_K g.1 zCl (zTy g) s) (hM : zMH g A M H) (hS0 : va_S A H0 H locs) {fs : List Value} (he : M a = some (.inr (ci, fs))) (hc : zCl[ci]? = some (C, T, N)) (k : Nat) (hk : k < N) (hlink : (Cond.fieldLink own index ref (T k).2.1 (T k).2.2.1).before args s = true) (hsame : ∀ x, s.fieldFound? (T k).1 (T k).2.1 (T k).2.2.1 = some x → s.fieldFound? ref (T k).2.1 (T k).2.2.1 = some x) (hfin : (T k).2.2.2 = false) {ty : FieldType} {v : Value} (hd : parseFieldDescriptor (T k).2.2.1 = some ty) (hn : narrow ty v = v) (hfit : fits ty v = true) (hl : k < fs.length)
    (hdg : decode cc pc = .ok (.putfield index, 3)) (kk : ∀ (H1 : Heap) (locs1 : List Loc), zMH g A (va_up M a (some (.inr (ci, fs.set k v)))) H1 → va_S A H0 H1 locs1 → W p l e R s m args below meth c H1 locs1 cells slots Q (F0 m (pc + 3) ls rest)) : W p l e R s m args below meth c H locs cells slots Q (F0 m pc ls (v :: .ref a :: rest)) := by
  obtain ⟨cell, cf, kf, fi, f, q1, q2, q3, hi, hlt, hat⟩ := zm_fld (own := own) hts hin ty0 hty hnm hK hM he hc hk hl
  obtain ⟨-, hfc, kC, hkC, hkind⟩ := hK.1 ci _ hc
  have hlay := hts _ (hin _ (u_in_lay hk))
  unfold u_lay at hlay
  rw [if_neg (by rw [hfin]; decide)] at hlay
  have hst := (u_facts hfc hkC (u_lays hts hin hk) hi).1
  have h6 := u_store hfc hkC hkind hlay hi hd hn hfit
  refine W.putK hexec hb (f := f) ⟨hown, hlink, ⟨_, _, _, hsame _ hi⟩, hst⟩ (by rw [q2]; exact h6) q1 q3 hlt rfl rfl hdg fun H' e1 e2 e3 => ?_
  exact kk H' _ (hM.up (hM.own he) (hat v H' e1) e2 e3) (hS0.put e2 e3 (hM.own he))
theorem zm_putN (hexec : p.tables.exec = Jvm.exec) (hb : c.code = cc) {own ref C host : String} {T : u_T} {N ci index : Nat} {Ts : List Cond} (hts : ∀ w ∈ Ts, w.before args s = true) (hin : ∀ w ∈ u_ws C T N, w ∈ Ts) (ty0 : Nat → FieldType) (hty : ∀ k, k < N → parseFieldDescriptor (T k).2.2.1 = some (ty0 k)) (hnm : ∀ a, a < N → ∀ b, b < N → a ≠ b → (T a).2.1 ≠ (T b).2.1) (hown : s.vm.findClass own = some m.cls) (hK : va_K g.1 zCl (zTy g) s) (hM : zMH g A M H) (hS0 : va_S A H0 H locs) {fs : List Value} (he : M a = some (.inr (ci, fs))) (hc : zCl[ci]? = some (C, T, N)) (k : Nat) (hk : k < N) (hlink : (Cond.fieldLinkNest own index ref (T k).2.1 (T k).2.2.1 host).before args s = true) (hsame : ∀ x, s.fieldFound? (T k).1 (T k).2.1 (T k).2.2.1 = some x → s.fieldFound? ref (T k).2.1 (T k).2.2.1 = some x) (hfin : (T k).2.2.2 = false) {ty : FieldType} {v : Value} (hd : parseFieldDescriptor (T k).2.2.1 = some ty) (hn : narrow ty v = v) (hfit : fits ty v = true) (hl : k < fs.length)
    (hdg : decode cc pc = .ok (.putfield index, 3)) (kk : ∀ (H1 : Heap) (locs1 : List Loc), zMH g A (va_up M a (some (.inr (ci, fs.set k v)))) H1 → va_S A H0 H1 locs1 → W p l e R s m args below meth c H1 locs1 cells slots Q (F0 m (pc + 3) ls rest)) : W p l e R s m args below meth c H locs cells slots Q (F0 m pc ls (v :: .ref a :: rest)) := by
  obtain ⟨cell, cf, kf, fi, f, q1, q2, q3, hi, hlt, hat⟩ := zm_fld (own := own) hts hin ty0 hty hnm hK hM he hc hk hl
  obtain ⟨-, hfc, kC, hkC, hkind⟩ := hK.1 ci _ hc
  have hlay := hts _ (hin _ (u_in_lay hk))
  unfold u_lay at hlay
  rw [if_neg (by rw [hfin]; decide)] at hlay
  have hst := (u_facts hfc hkC (u_lays hts hin hk) hi).1
  have h6 := u_store hfc hkC hkind hlay hi hd hn hfit
  refine va_WputK hexec hb (f := f) hown hlink (hsame _ hi) hst (by rw [q2]; exact h6) q1 q3 hlt rfl rfl hdg fun H' e1 e2 e3 => ?_
  exact kk H' _ (hM.up (hM.own he) (hat v H' e1) e2 e3) (hS0.put e2 e3 (hM.own he))
theorem zm_putF (hexec : p.tables.exec = Jvm.exec) (hb : c.code = cc) {own ref C : String} {T : u_T} {N ci index : Nat} {Ts : List Cond} (hts : ∀ w ∈ Ts, w.before args s = true) (hin : ∀ w ∈ u_ws C T N, w ∈ Ts) (ty0 : Nat → FieldType) (hty : ∀ k, k < N → parseFieldDescriptor (T k).2.2.1 = some (ty0 k)) (hnm : ∀ a, a < N → ∀ b, b < N → a ≠ b → (T a).2.1 ≠ (T b).2.1) (hown : s.vm.findClass own = some m.cls) (hK : va_K g.1 zCl (zTy g) s) (hM : zMH g A M H) (hS0 : va_S A H0 H locs) {fs : List Value} (he : M a = some (.inr (ci, fs))) (hc : zCl[ci]? = some (C, T, N)) (k : Nat) (hk : k < N) (hlink : (Cond.fieldLink own index ref (T k).2.1 (T k).2.2.1).before args s = true) (hsame : ∀ x, s.fieldFound? (T k).1 (T k).2.1 (T k).2.2.1 = some x → s.fieldFound? ref (T k).2.1 (T k).2.2.1 = some x) (hfin : (T k).2.2.2 = true) (hin2 : meth.name = "<init>") (hdecl : (T k).1 = own) {ty : FieldType} {v : Value} (hd : parseFieldDescriptor (T k).2.2.1 = some ty) (hn : narrow ty v = v) (hfit : fits ty v = true) (hl : k < fs.length)
    (hdg : decode cc pc = .ok (.putfield index, 3)) (kk : ∀ (H1 : Heap) (locs1 : List Loc), zMH g A (va_up M a (some (.inr (ci, fs.set k v)))) H1 → va_S A H0 H1 locs1 → W p l e R s m args below meth c H1 locs1 cells slots Q (F0 m (pc + 3) ls rest)) : W p l e R s m args below meth c H locs cells slots Q (F0 m pc ls (v :: .ref a :: rest)) := by
  obtain ⟨cell, cf, kf, fi, f, q1, q2, q3, hi, hlt, hat⟩ := zm_fld (own := own) hts hin ty0 hty hnm hK hM he hc hk hl
  obtain ⟨-, hfc, kC, hkC, hkind⟩ := hK.1 ci _ hc
  have hlay := hts _ (hin _ (u_in_lay hk))
  unfold u_lay at hlay
  rw [if_pos hfin] at hlay
  have hst := (u_facts hfc hkC (u_lays hts hin hk) hi).1
  have hcf : m.cls = cf := by
    obtain ⟨_, _, c', _, _, _, -, -, hf', -, -, -, hown2, -⟩ := Cond.laysFinal_spec hlay
    have e1 : c' = cf := by have := hi.symm.trans hf'; simp at this; exact this.1.symm
    rw [hdecl] at hown2
    rw [← e1]; exact Option.some.inj (hown.symm.trans hown2)
  have h6 := u_fits hfc hkC hkind (Or.inr hlay) hi hd hn hfit
  refine W.putFinK hexec hb hown hlink (hsame _ hi) hst hcf hin2 (by rw [q2]; exact h6) q1 q3 hlt rfl rfl hdg fun H' e1 e2 e3 => ?_
  exact kk H' _ (hM.up (hM.own he) (hat v H' e1) e2 e3) (hS0.put e2 e3 (hM.own he))
theorem zm_in {k n : Nat} (h : k < n) (hn : n < 2 ^ 31) : vp_in (nI k) n := vp_in_nI h hn
theorem zm_arrI {H1 : Heap} {cA : ClassId} {n k : Nat} {f : Nat → Int32} {x : Int32} (hk : k < 2 ^ 31) (e : H1[a]? = some ((vp_cell cA (n, .inl f)).setSlot (nI k).toNatClampNeg (.int x))) : va_at g.1 zCl (a, .inl (cA, n, .inl (va_up f k x))) H1 := by
  show H1[a]? = some (vp_cell _ _)
  rw [e, vp_cell_i, vp_cell_i, arrV_store, nI_clamp hk]
  congr 2
  funext q
  by_cases hq : q = k
  · subst hq
    simp [updV, va_up]
  · simp [updV, va_up, hq]
theorem zm_ild (hexec : p.tables.exec = Jvm.exec) (hb : c.code = cc) (hK : va_K g.1 zCl (zTy g) s) (hM : zMH g A M H) {n : Nat} {f : Nat → Int32} (ha : M a = some (zI g n f)) {k : Nat} (hk : k < n) (hn : n < 2 ^ 31) (hdg : decode cc pc = .ok (.iaload, 1))
    (kk : W p l e R s m args below meth c H locs cells slots Q (F0 m (pc + 1) ls (.int (f k) :: rest))) : W p l e R s m args below meth c H locs cells slots Q (F0 m pc ls (.int (nI k) :: .ref a :: rest)) :=
  va_iald hexec hb hK (hM.oneA ha hk) 0 0 rfl rfl (zm_in hk hn) hdg (by rw [nI_clamp (by omega)]; exact kk)
theorem zm_zld (hexec : p.tables.exec = Jvm.exec) (hb : c.code = cc) (hK : va_K g.1 zCl (zTy g) s) (hM : zMH g A M H) {n : Nat} {f : Nat → Int32} (ha : M a = some (zZ g n f)) {k : Nat} (hk : k < n) (hn : n < 2 ^ 31) (hdg : decode cc pc = .ok (.baload, 1))
    (kk : W p l e R s m args below meth c H locs cells slots Q (F0 m (pc + 1) ls (.int (f k) :: rest))) : W p l e R s m args below meth c H locs cells slots Q (F0 m pc ls (.int (nI k) :: .ref a :: rest)) :=
  va_zald hexec hb hK (hM.oneA ha hk) 0 1 rfl rfl (zm_in hk hn) hdg (by rw [nI_clamp (by omega)]; exact kk)
theorem zm_lld (hexec : p.tables.exec = Jvm.exec) (hb : c.code = cc) (hK : va_K g.1 zCl (zTy g) s) (hM : zMH g A M H) {n : Nat} {f : Nat → Int64} (ha : M a = some (zJ g n f)) {k : Nat} (hk : k < n) (hn : n < 2 ^ 31) (hdg : decode cc pc = .ok (.laload, 1))
    (kk : W p l e R s m args below meth c H locs cells slots Q (F0 m (pc + 1) ls (.long (f k) :: rest))) : W p l e R s m args below meth c H locs cells slots Q (F0 m pc ls (.int (nI k) :: .ref a :: rest)) :=
  va_lald hexec hb hK (hM.oneA ha hk) 0 2 rfl rfl (zm_in hk hn) hdg (by rw [nI_clamp (by omega)]; exact kk)
theorem zm_ald (hexec : p.tables.exec = Jvm.exec) (hb : c.code = cc) (hK : va_K g.1 zCl (zTy g) s) (hM : zMH g A M H) {n : Nat} {f : Nat → Option Nat} (ha : M a = some (zQ g n f)) {k : Nat} (hk : k < n) (hn : n < 2 ^ 31) (hdg : decode cc pc = .ok (.aaload, 1))
    (kk : W p l e R s m args below meth c H locs cells slots Q (F0 m (pc + 1) ls (va_rf (f k) :: rest))) : W p l e R s m args below meth c H locs cells slots Q (F0 m pc ls (.int (nI k) :: .ref a :: rest)) :=
  va_aldq hexec hb hK (hM.oneA ha hk) 0 3 rfl rfl (zm_in hk hn) hdg (by rw [nI_clamp (by omega)]; exact kk)
theorem zm_ist (hexec : p.tables.exec = Jvm.exec) (hb : c.code = cc) (hK : va_K g.1 zCl (zTy g) s) (hM : zMH g A M H) (hS : va_S A H0 H locs) {n : Nat} {f : Nat → Int32} (ha : M a = some (zI g n f)) {k : Nat} {x : Int32} (hk : k < n) (hn : n < 2 ^ 31) (hdg : decode cc pc = .ok (.iastore, 1))
    (kk : ∀ (H1 : Heap) (locs1 : List Loc), zMH g A (va_up M a (some (zI g n (va_up f k x)))) H1 → va_S A H0 H1 locs1 → W p l e R s m args below meth c H1 locs1 cells slots Q (F0 m (pc + 1) ls rest)) : W p l e R s m args below meth c H locs cells slots Q (F0 m pc ls (.int x :: .int (nI k) :: .ref a :: rest)) := by
  have hA := hM.ownA ha (by omega)
  refine W.iast hexec hb (hM.arA ha hA) ((hK.2 0 _ rfl).1 n (fun j => .int (f j))) (fun q => by cases q) (by show ¬ (nI k < 0 ∨ (arrV _ _ _).slots.size ≤ _); rw [arrV_size]; exact zm_in hk hn) rfl rfl hdg fun H1 e z oq => ?_
  exact kk H1 _ (hM.up hA (zm_arrI (by omega) e) z oq) (hS.put z oq hA)
theorem zm_nz {x : Int32} (hx : x = 0 ∨ x = 1) : narrow .boolean (.int x) = .int x := by
  rcases hx with rfl | rfl <;> rfl
theorem zm_zst (hexec : p.tables.exec = Jvm.exec) (hb : c.code = cc) (hK : va_K g.1 zCl (zTy g) s) (hM : zMH g A M H) (hS : va_S A H0 H locs) {n : Nat} {f : Nat → Int32} (ha : M a = some (zZ g n f)) {k : Nat} {x : Int32} (hk : k < n) (hn : n < 2 ^ 31) (hx : x = 0 ∨ x = 1) (hdg : decode cc pc = .ok (.bastore, 1))
    (kk : ∀ (H1 : Heap) (locs1 : List Loc), zMH g A (va_up M a (some (zZ g n (va_up f k x)))) H1 → va_S A H0 H1 locs1 → W p l e R s m args below meth c H1 locs1 cells slots Q (F0 m (pc + 1) ls rest)) : W p l e R s m args below meth c H locs cells slots Q (F0 m pc ls (.int x :: .int (nI k) :: .ref a :: rest)) := by
  have hA := hM.ownA ha (by omega)
  refine W.zast hexec hb (hM.arA ha hA) ((hK.2 1 _ rfl).1 n (fun j => .int (f j))) (fun q => by cases q) (by show ¬ (nI k < 0 ∨ (arrV _ _ _).slots.size ≤ _); rw [arrV_size]; exact zm_in hk hn) rfl rfl hdg fun H1 e z oq => ?_
  rw [zm_nz hx] at e
  exact kk H1 _ (hM.up hA (zm_arrI (by omega) e) z oq) (hS.put z oq hA)
theorem zm_lst (hexec : p.tables.exec = Jvm.exec) (hb : c.code = cc) (hK : va_K g.1 zCl (zTy g) s) (hM : zMH g A M H) (hS : va_S A H0 H locs) {n : Nat} {f : Nat → Int64} (ha : M a = some (zJ g n f)) {k : Nat} {x : Int64} (hk : k < n) (hn : n < 2 ^ 31) (hdg : decode cc pc = .ok (.lastore, 1))
    (kk : ∀ (H1 : Heap) (locs1 : List Loc), zMH g A (va_up M a (some (zJ g n (va_up f k x)))) H1 → va_S A H0 H1 locs1 → W p l e R s m args below meth c H1 locs1 cells slots Q (F0 m (pc + 1) ls rest)) : W p l e R s m args below meth c H locs cells slots Q (F0 m pc ls (.long x :: .int (nI k) :: .ref a :: rest)) := by
  have hA := hM.ownA ha (by omega)
  refine W.last hexec hb (hM.arA ha hA) ((hK.2 2 _ rfl).1 n (fun j => .long (f j))) (fun q => by cases q) (by show ¬ (nI k < 0 ∨ (arrV _ _ _).slots.size ≤ _); rw [arrV_size]; exact zm_in hk hn) rfl rfl hdg fun H1 e z oq => ?_
  refine kk H1 _ (hM.up hA ?_ z oq) (hS.put z oq hA)
  show H1[a]? = some (vp_cell _ _)
  rw [e, vp_cell_l, vp_cell_l, arrV_store, nI_clamp (by omega)]
  congr 2
  funext q
  by_cases hq : q = k
  · subst hq
    simp [updV, va_up]
  · simp [updV, va_up, hq]
/-- an element that may lie in an Object[]: null, or a cell whose class is castable to Object -/
def zm_elt (g : zG) (s : State) (M : Nat → Option va_E) (x : Option Nat) : Prop := ∀ v, x = some v → ∃ (ci : Nat) (vs : List Value) (r : vw_C), M v = some (.inr (ci, vs)) ∧ zCl[ci]? = some r ∧ va_Nw (.castable r.1 "java/lang/Object") s
theorem zm_arrQ {H1 : Heap} {cA : ClassId} {n k : Nat} {f : Nat → Option Nat} {x : Option Nat} (hk : k < 2 ^ 31) (e : H1[a]? = some ((vp_cell cA (n, .inr (.inr (.inr (.inr f))))).setSlot (nI k).toNatClampNeg (va_rf x))) : va_at g.1 zCl (a, .inl (cA, n, .inr (.inr (.inr (.inr (va_up f k x)))))) H1 := by
  show H1[a]? = some (vp_cell _ _)
  rw [e, vp_cell_q, vp_cell_q, arrV_store, nI_clamp hk]
  congr 2
  funext q
  by_cases hq : q = k
  · subst hq
    simp [updV, va_up]
  · simp [updV, va_up, hq]
theorem zm_ast (hexec : p.tables.exec = Jvm.exec) (hb : c.code = cc) (hK : va_K g.1 zCl (zTy g) s) (hM : zMH g A M H) (hS : va_S A H0 H locs) {n : Nat} {f : Nat → Option Nat} (ha : M a = some (zQ g n f)) {k : Nat} {x : Option Nat} (hx : zm_elt g s M x) (hk : k < n) (hn : n < 2 ^ 31) (hdg : decode cc pc = .ok (.aastore, 1))
    (kk : ∀ (H1 : Heap) (locs1 : List Loc), zMH g A (va_up M a (some (zQ g n (va_up f k x)))) H1 → va_S A H0 H1 locs1 → W p l e R s m args below meth c H1 locs1 cells slots Q (F0 m (pc + 1) ls rest)) : W p l e R s m args below meth c H locs cells slots Q (F0 m pc ls (va_rf x :: .int (nI k) :: .ref a :: rest)) := by
  have hA := hM.ownA ha (by omega)
  cases x with
  | none =>
    refine va_WaastN (C := "java/lang/Object") hexec hb (hM.arA ha hA) ((hK.2 3 _ rfl).1 n (fun j => va_rf (f j))) (fun h => by cases h) (by show ¬ (nI k < 0 ∨ (arrV _ _ _).slots.size ≤ _); rw [arrV_size]; exact zm_in hk hn) rfl rfl hdg fun H1 e z oq => ?_
    exact kk H1 _ (hM.up hA (zm_arrQ (x := none) (by omega) e) z oq) (hS.put z oq hA)
  | some v =>
    obtain ⟨ci, vs, r, hv, hc, hcast⟩ := hx v rfl
    obtain ⟨r', hr', cellV, g1, g2, g3, -⟩ := hM.ob hv
    cases Option.some.inj (hr'.symm.trans hc)
    have hcls := (hK.1 ci _ hc).2
    obtain ⟨kA, comp, k1, k2, k3, -⟩ := (hK.2 3 _ rfl).2
    obtain ⟨c0, t0, f1, f2, f3⟩ := Cond.castable_spec (va_Nw.use (A := args) rfl hcast)
    have e0 : c0 = g.1.1 ci := Option.some.inj (f1.symm.trans hcls.1)
    have et : t0 = comp := Option.some.inj (f2.symm.trans k3)
    subst e0 et
    obtain ⟨kC, hkC, -⟩ := hcls.2
    obtain ⟨kO, hkO, -⟩ := Vm.findClass_spec f2
    refine W.aast hexec hb (hM.arA ha hA) (fun q h => by cases h) (fun h => by cases h) k1 k2 rfl hkO ⟨(fun q => zm_in hk hn (Or.inl q)), by show _ < (arrV _ _ _).slots.size; rw [arrV_size, nI_clamp (by omega)]; exact hk⟩ g1 (fun q h => by rw [g3] at h; cases h) (by rw [g2]; exact hkC) (by rw [g2]; exact f3) rfl rfl hdg fun H1 e z oq => ?_
    exact kk H1 _ (hM.up hA (zm_arrQ (x := some v) (by omega) e) z oq) (hS.put z oq hA)
theorem zm_alen (hexec : p.tables.exec = Jvm.exec) (hb : c.code = cc) (hK : va_K g.1 zCl (zTy g) s) (hM : zMH g A M H) (t0 : Nat) {cA : ClassId} {x : vp_A} {ty : FieldType} (ha : M a = some (.inl (cA, x))) (ht : (zTy g)[t0]? = some (cA, ty)) (hdg : decode cc pc = .ok (.arraylength, 1))
    (kk : W p l e R s m args below meth c H locs cells slots Q (F0 m (pc + 1) ls (.int (nI x.1) :: rest))) : W p l e R s m args below meth c H locs cells slots Q (F0 m pc ls (.ref a :: rest)) := by
  by_cases q : a = zd0 g
  · subst q
    obtain ⟨n, y⟩ := x
    obtain ⟨cell, h1, h2, h3, h4⟩ := (hM.1 _ _ ha).2 rfl
    have e2 : (cA, (n, y)) = (g.2.1.2.2.2, ((0 : Nat), _)) := Sum.inl.inj (Option.some.inj (ha.symm.trans hM.2.2.2.1))
    have ecA : cA = g.2.1.2.2.2 := congrArg Prod.fst e2
    have en : n = 0 := congrArg (fun z : ClassId × vp_A => z.2.1) e2
    subst en
    obtain ⟨-, k, hk, comp, hkk⟩ := (hK.2 t0 _ ht).1 0 (fun _ => .null)
    exact W.alen (n := nI 0) hexec hb h1 ⟨h4, k, by rw [h2, ← ecA]; exact hk, comp, hkk⟩ (by rw [h3]; rfl) rfl rfl hdg kk
  · exact va_alen hexec hb hK (zMH.oneV ((hM.1 a _ ha).1 q)) 0 t0 rfl ht rfl hdg kk
end ZM
