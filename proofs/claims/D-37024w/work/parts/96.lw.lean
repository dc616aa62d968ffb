/-! THE LAW: its worlds, its calls, its start -/
theorem zcmp0 {x y : Int64} (h : x = y) : lg_cmp x y = 0 := by
  subst h
  unfold lg_cmp
  by_cases c : x > x
  · exact absurd (Int64.lt_iff_toInt_lt.mp c) (Int.lt_irrefl _)
  · rw [if_neg c, if_pos rfl]
theorem zTH.nz {g : zG} {A : Nat → Prop} {T : zT} {H : Heap} (h : zTH g A T H) : ¬ A (zd0 g) := by
  obtain ⟨M, bk, hM, -⟩ := h
  exact hM.2.2.2.2
theorem zMX.nz {g : zG} {A : Nat → Prop} {mo : Nat} {ma : Nat → Nat} {X : zX} {H : Heap} (h : zMX g A mo ma X H) : ¬ A (zd0 g) := by
  obtain ⟨T, hT, -⟩ := h
  exact hT.nz
theorem zTH.e0 {g : zG} {A : Nat → Prop} {T : zT} {H : Heap} (h : zTH g A T H) : zE0 g H := by
  obtain ⟨M, bk, hM, -⟩ := h
  exact (hM.1 _ _ hM.2.2.2.1).2 rfl
theorem zE0.lt {g : zG} {H : Heap} (h : zE0 g H) : zd0 g < H.size := by
  obtain ⟨cell, h1, -⟩ := h
  exact (Array.getElem?_eq_some_iff.mp h1).1
/-- an empty world -/
theorem zTH.empty {g : zG} {H : Heap} (h : zE0 g H) {A : Nat → Prop} (hA : ∀ q, H.size ≤ q → A q) (h0 : ¬ A (zd0 g)) : zTH g A (fun _ => none) H := by
  refine ⟨fun a => if a = zd0 g then some (zQ g 0 (fun _ => none)) else none, fun _ => 0, ⟨fun a e ha => ⟨fun q => ?_, fun _ => h⟩, fun a e ha q => ?_, hA, if_pos rfl, h0⟩, ⟨fun a e ha => ?_, fun a mu xs ha => ?_, fun a v ha => ?_, fun a b v w ha => ?_, rfl⟩⟩
  · have ha2 : (if a = zd0 g then some (zQ g 0 (fun _ => none)) else none) = some e := ha
    rw [if_neg q] at ha2; cases ha2
  · have ha2 : (if a = zd0 g then some (zQ g 0 (fun _ => none)) else none) = some e := ha
    rw [if_neg q] at ha2; cases ha2
  · have ha2 : (none : Option zE) = some (.inl e) := ha
    cases ha2
  · have ha2 : (none : Option zE) = some (.inr (mu, xs)) := ha
    cases ha2
  · have ha2 : (none : Option zE) = some (.inr v) := ha
    cases ha2
  · have ha2 : (none : Option zE) = some (.inr v) := ha
    cases ha2
/-- another world has changed, or grown: one's own is kept, and gives up the new cells -/
theorem zMH.cut {g : zG} {A C : Nat → Prop} {M : Nat → Option va_E} {H H1 : Heap} (h : zMH g A M H) (hz : H.size ≤ H1.size) (hk : ∀ q : Nat, q < H.size → ¬ C q → H1[q]? = H[q]?) (hC : ∀ q, q < H.size → C q → ¬ A q ∧ q ≠ zd0 g) : zMH g (fun q => A q ∧ (q < H.size ∨ H1.size ≤ q)) M H1 := by
  have h1 := h.keptA hz hk hC
  exact ⟨h1.1, fun a e ha hne => ⟨h1.2.1 a e ha hne, Or.inl (h.lt ha)⟩, fun q hq => ⟨h1.2.2.1 q hq, Or.inr hq⟩, h1.2.2.2.1, fun z => h1.2.2.2.2 z.1⟩
theorem zTH.cut {g : zG} {A C : Nat → Prop} {T : zT} {H H1 : Heap} (h : zTH g A T H) (hz : H.size ≤ H1.size) (hk : ∀ q : Nat, q < H.size → ¬ C q → H1[q]? = H[q]?) (hC : ∀ q, q < H.size → C q → ¬ A q ∧ q ≠ zd0 g) : zTH g (fun q => A q ∧ (q < H.size ∨ H1.size ≤ q)) T H1 := by
  obtain ⟨M, bk, hM, hT⟩ := h
  exact ⟨M, bk, hM.cut hz hk hC, hT⟩
theorem zMX.cut {g : zG} {A C : Nat → Prop} {mo : Nat} {ma : Nat → Nat} {X : zX} {H H1 : Heap} (h : zMX g A mo ma X H) (hz : H.size ≤ H1.size) (hk : ∀ q : Nat, q < H.size → ¬ C q → H1[q]? = H[q]?) (hC : ∀ q, q < H.size → C q → ¬ A q ∧ q ≠ zd0 g) : zMX g (fun q => A q ∧ (q < H.size ∨ H1.size ≤ q)) mo ma X H1 := by
  obtain ⟨T, hT, hX⟩ := h
  exact ⟨T, hT.cut hz hk hC, hX⟩
/-- the law's world: the system at S and X, the cell of long[1] at oa with f, the reference at Z -/
def zLw (g : zG) (B : Nat → Prop) (xo mo oa : Nat) (ma : Nat → Nat) (S : zS) (X Z : zX) (f : Nat → Int64) (H : Heap) : Prop :=
  ∃ (T : zT) (As Am : Nat → Prop), zTH g As (va_up T oa (some (.inl (zJ g 1 f)))) H ∧ T oa = none ∧ zSy S g X T ∧ S.A 0 = xo ∧ zMX g Am mo ma Z H ∧ (∀ q, As q → B q) ∧ (∀ q, Am q → B q) ∧ ∀ q, q < H.size → As q → ¬ Am q
theorem zLw.sys {g : zG} {B As Am : Nat → Prop} {xo mo oa : Nat} {ma : Nat → Nat} {S1 : zS} {X1 Z : zX} {f1 : Nat → Int64} {T0 T1 : zT} {H H1 : Heap} (hT : zTH g As T0 H) (hM : zMX g Am mo ma Z H) (hAs : ∀ q, As q → B q) (hAm : ∀ q, Am q → B q) (hdj : ∀ q, q < H.size → As q → ¬ Am q) (hT1 : zTH g As (va_up T1 oa (some (.inl (zJ g 1 f1)))) H1) (hn1 : T1 oa = none) (hY1 : zSy S1 g X1 T1) (hA1 : S1.A 0 = xo) (hz : H.size ≤ H1.size) (hk : ∀ q : Nat, q < H.size → ¬ As q → H1[q]? = H[q]?) : zLw g B xo mo oa ma S1 X1 Z f1 H1 := by
  refine ⟨T1, As, fun q => Am q ∧ (q < H.size ∨ H1.size ≤ q), hT1, hn1, hY1, hA1, hM.cut hz hk (fun q h1 h2 => ⟨hdj q h1 h2, fun e => hT.nz (by rw [← e]; exact h2)⟩), hAs, fun q h => hAm q h.1, fun q h1 h2 h3 => ?_⟩
  rcases h3.2 with c | c
  · exact hdj q c h2 h3.1
  · omega
theorem zLw.mod {g : zG} {B As Am : Nat → Prop} {xo mo oa : Nat} {ma : Nat → Nat} {S : zS} {X Z Z1 : zX} {f : Nat → Int64} {T : zT} {H H1 : Heap} (hT : zTH g As (va_up T oa (some (.inl (zJ g 1 f)))) H) (hn : T oa = none) (hY : zSy S g X T) (hA : S.A 0 = xo) (hM : zMX g Am mo ma Z H) (hAs : ∀ q, As q → B q) (hAm : ∀ q, Am q → B q) (hdj : ∀ q, q < H.size → As q → ¬ Am q) (hM1 : zMX g Am mo ma Z1 H1) (hz : H.size ≤ H1.size) (hk : ∀ q : Nat, q < H.size → ¬ Am q → H1[q]? = H[q]?) : zLw g B xo mo oa ma S X Z1 f H1 := by
  refine ⟨T, fun q => As q ∧ (q < H.size ∨ H1.size ≤ q), Am, hT.cut hz hk (fun q h1 h2 => ⟨fun h3 => hdj q h1 h3 h2, fun e => hM.nz (by rw [← e]; exact h2)⟩), hn, hY, hA, hM1, fun q h => hAs q h.1, hAm, fun q h1 h2 h3 => ?_⟩
  rcases h2.2 with c | c
  · exact hdj q c h2.1 h3
  · omega
theorem zStep.out {t : Nat} {S : zS} {X Y : zX} {R : zS → Prop} (h : zStep t S X Y R) (hI : zIv t S X) {g : zG} {r : Int32} {u1 : zS} {T1 : zT} {V : Prop} (hr : r = Y 0 0) (hp : (r = 0 ∧ zSy u1 g Y T1 ∧ V ∧ R u1) ∨ (¬ r = 0 ∧ u1 = S ∧ zSy S g X T1)) : zIv (t + 1) u1 Y ∧ u1.A 0 = S.A 0 ∧ zSy u1 g Y T1 ∧ (r = 0 → V) := by
  rcases hp with ⟨h0, hy, hv, hR⟩ | ⟨h0, e1, hy⟩
  · obtain ⟨a, b⟩ := h.2 (hr.symm.trans h0) _ hR
    exact ⟨a, b, hy, fun _ => hv⟩
  · have e := h.1 (fun z => h0 (hr.trans z))
    rw [e1]
    refine ⟨?_, rfl, ?_, fun z => absurd z h0⟩
    · rw [e]; exact hI.thr _
    · rw [e]; exact hy.hid 0 0 _ (Or.inl rfl)
theorem zStep.out2 {t : Nat} {S : zS} {X Y : zX} {R : zS → Prop} (h : zStep t S X Y R) (hI : zIv t S X) {g : zG} {r : Int32} {u1 : zS} {T1 : zT} (hr : r = Y 0 0) (hp : (r = 0 ∧ zSy u1 g Y T1 ∧ R u1) ∨ (¬ r = 0 ∧ u1 = S ∧ zSy S g X T1)) : zIv (t + 1) u1 Y ∧ u1.A 0 = S.A 0 ∧ zSy u1 g Y T1 := by
  obtain ⟨a, b, c, -⟩ := h.out hI hr (V := True) (hp.imp (fun z => ⟨z.1, z.2.1, trivial, z.2.2⟩) id)
  exact ⟨a, b, c⟩
section ZLC
variable {p : Program} {l : Launch} {e : Env} {R : Room} {s : State} {m : MethodId} {args : Array Value} {below : List Frame} {meth : Method} {c : Code} {H : Heap} {locs : List Loc} {cells slots : Nat} {Q : State → Prop}
variable {cc : ByteArray} {pc : Nat} {ls : Array Slot} {rest : List Value} {g : zG} {A A1 : Nat → Prop} {B0 : Heap → Prop}
variable {y : MethodName} {bytes : ByteArray} {maxL nL mc ms n index d : Nat} {ret : Option FieldType} {own C : String} {b : Addr} {As : List Value}
theorem zl_sys {hh : List (Nat × Nat × Nat × Nat)} {S : Type} {post : Int32 → S → Prop} {BB : S → Heap → Prop} (CF : CallFix p m c cc nL s args lw_all own) (hM : vx_Met l y (wsW_ y bytes maxL ret hh) (zR d mc ms) (zP As g A1 B0) (va_Qi post (fun u t => BB u t.heap) A1) (vx_X (fun (_ : Unit) => False) (fun _ _ _ => True) A1) mc ms A1) (hN : zN y n) (hG : GoodIn lw_all (va_wsS own index y (wsW_ y bytes maxL ret hh))) (hd : d + 1 ≤ R.frames) (hlo : 8 + (maxL + 11) + 32 * d ≤ R.locals) (hK : zK g A s) (hAA : ∀ q, A1 q → A q) (hS : va_S A s.heap H locs) (hB : B0 H)
    (hn : As.length = n) (hsize : ls.size = nL) (hW : (rest.map fun v => v.category).sum ≤ 8) (hdg : decode cc pc = .ok (.invokestatic index, 3)) (hf : cells + mc ≤ R.cells ∧ slots + ms ≤ R.slots)
    (kk : ∀ (r : Int32) (u : S) (H1 : Heap) (locs1 : List Loc), post r u → BB u H1 → H.size ≤ H1.size → (∀ q : Nat, q < H.size → ¬ A1 q → H1[q]? = H[q]?) → va_S A s.heap H1 locs1 → W p l e R s m args below meth c H1 locs1 (cells + mc) (slots + ms) Q (F0 m (pc + 3) ls (.int r :: rest))) : W p l e R s m args below meth c H locs cells slots Q (F0 m pc ls (As.reverse ++ rest)) :=
  vx_calli (vx_runSX CF hM (vx_cwSW n CF.2.2.2.2 hG rfl rfl rfl hN ⟨hd, hlo⟩) (zP.S hK hAA hS hB) rfl hn hsize rfl (by show 2 * (F0 m pc ls rest).monitorRoom + _ ≤ 8; exact lv_room hW) hdg hf) hS (fun q _ h => hAA q h) hAA (fun q _ h => hAA q h) (fun E ce q9 u t H1 locs1 _ _ hp => False.elim hp) (fun r u t H1 locs1 ht _ hp hB hz hk hS1 => kk r u H1 locs1 hp (by rw [← ht]; exact hB) hz hk hS1)
theorem zl_mod {S : Type} {post : Int32 → S → Prop} {BB : S → Heap → Prop} (CF : CallFix p m c cc nL s args lw_all own) (hM : Met l y (ws_ y bytes maxL ret) (zR d mc ms) (zP (.ref b :: As) g A1 B0) (va_Qi post (fun u t => BB u t.heap) A1) mc ms A1) (hN : zN y n) (hG : GoodIn lw_all (wsV own index C y (ws_ y bytes maxL ret))) (hC : y.cls = C) (hd : d + 1 ≤ R.frames) (hlo : 8 + (maxL + 11) + 32 * d ≤ R.locals) (hK : zK g A s) (hAA : ∀ q, A1 q → A q) (hS : va_S A s.heap H locs) (hB : B0 H)
    (hr : ∃ cell : Cell, H[b]? = some cell ∧ cell.vm.isStatics = false ∧ s.vm.findClass C = some cell.cls) (hn : As.length = n) (hsize : ls.size = nL) (hW : (rest.map fun v => v.category).sum ≤ 8) (hdg : decode cc pc = .ok (.invokevirtual index, 3)) (hf : cells + mc ≤ R.cells ∧ slots + ms ≤ R.slots)
    (kk : ∀ (r : Int32) (u : S) (H1 : Heap) (locs1 : List Loc), post r u → BB u H1 → H.size ≤ H1.size → (∀ q : Nat, q < H.size → ¬ A1 q → H1[q]? = H[q]?) → va_S A s.heap H1 locs1 → W p l e R s m args below meth c H1 locs1 (cells + mc) (slots + ms) Q (F0 m (pc + 3) ls (.int r :: rest))) : W p l e R s m args below meth c H locs cells slots Q (F0 m pc ls (As.reverse ++ .ref b :: rest)) :=
  va_calli (va_runV CF hM (cwV n CF.2.2.2.2 hG rfl rfl rfl ⟨hC, hN⟩ ⟨hd, hlo⟩) (zP.V hK hAA hS hB hr) rfl hn hsize rfl (by show 2 * (F0 m pc ls rest).monitorRoom + _ ≤ 8; exact lv_room hW) hdg hf) hS (fun q _ h => hAA q h) hAA (fun r u t H1 locs1 ht _ hp hB hz hk hS1 => kk r u H1 locs1 hp (by rw [← ht]; exact hB) hz hk hS1)
theorem zl_modv {S : Type} {post : S → Prop} {BB : S → Heap → Prop} (CF : CallFix p m c cc nL s args lw_all own) (hM : Met l y (ws_ y bytes maxL ret) (zR d mc ms) (zP (.ref b :: As) g A1 B0) (va_Qv post (fun u t => BB u t.heap) A1) mc ms A1) (hN : zN y n) (hG : GoodIn lw_all (wsV own index C y (ws_ y bytes maxL ret))) (hC : y.cls = C) (hd : d + 1 ≤ R.frames) (hlo : 8 + (maxL + 11) + 32 * d ≤ R.locals) (hK : zK g A s) (hAA : ∀ q, A1 q → A q) (hS : va_S A s.heap H locs) (hB : B0 H)
    (hr : ∃ cell : Cell, H[b]? = some cell ∧ cell.vm.isStatics = false ∧ s.vm.findClass C = some cell.cls) (hn : As.length = n) (hsize : ls.size = nL) (hW : (rest.map fun v => v.category).sum ≤ 8) (hdg : decode cc pc = .ok (.invokevirtual index, 3)) (hf : cells + mc ≤ R.cells ∧ slots + ms ≤ R.slots)
    (kk : ∀ (u : S) (H1 : Heap) (locs1 : List Loc), post u → BB u H1 → H.size ≤ H1.size → (∀ q : Nat, q < H.size → ¬ A1 q → H1[q]? = H[q]?) → va_S A s.heap H1 locs1 → W p l e R s m args below meth c H1 locs1 (cells + mc) (slots + ms) Q (F0 m (pc + 3) ls rest)) : W p l e R s m args below meth c H locs cells slots Q (F0 m pc ls (As.reverse ++ .ref b :: rest)) :=
  va_callv (va_runV CF hM (cwV n CF.2.2.2.2 hG rfl rfl rfl ⟨hC, hN⟩ ⟨hd, hlo⟩) (zP.V hK hAA hS hB hr) rfl hn hsize rfl (by show 2 * (F0 m pc ls rest).monitorRoom + _ ≤ 8; exact lv_room hW) hdg hf) hS (fun q _ h => hAA q h) hAA (fun u t H1 locs1 ht _ hp hB hz hk hS1 => kk u H1 locs1 hp (by rw [← ht]; exact hB) hz hk hS1)
theorem zl_ini {S : Type} {post : S → Prop} {BB : S → Heap → Prop} (CF : CallFix p m c cc nL s args lw_all own) (hM : Met l y (ws_ y bytes maxL none) (zR d mc ms) (zP (.ref b :: As) g A1 B0) (va_Qv post (fun u t => BB u t.heap) A1) mc ms A1) (hN : zN y n) (hcw : Cond.code y bytes maxL none ∈ lw_all) (hini : Cond.initialized y.cls ∈ lw_all) (hl : Cond.methodLink own index y ∈ lw_all) (hin : Cond.instanceMethod y ∈ lw_all) (hy1 : y.name = "<init>") (hd : d + 1 ≤ R.frames) (hlo : 8 + (maxL + 11) + 32 * d ≤ R.locals) (hK : zK g A s) (hAA : ∀ q, A1 q → A q) (hS : va_S A s.heap H locs) (hB : B0 H)
    (hn : As.length = n) (hsize : ls.size = nL) (hW : (rest.map fun v => v.category).sum ≤ 8) (hdg : decode cc pc = .ok (.invokespecial index, 3)) (hf : cells + mc ≤ R.cells ∧ slots + ms ≤ R.slots)
    (kk : ∀ (u : S) (H1 : Heap) (locs1 : List Loc), post u → BB u H1 → H.size ≤ H1.size → (∀ q : Nat, q < H.size → ¬ A1 q → H1[q]? = H[q]?) → va_S A s.heap H1 locs1 → W p l e R s m args below meth c H1 locs1 (cells + mc) (slots + ms) Q (F0 m (pc + 3) ls rest)) : W p l e R s m args below meth c H locs cells slots Q (F0 m pc ls (As.reverse ++ .ref b :: rest)) :=
  va_callv (va_runI CF hM (cwI n CF.2.2.2.2 (lw_meth hcw) rfl rfl rfl (CF.2.2.2.2 _ hini) (CF.2.2.2.2 _ hl) (CF.2.2.2.2 _ hin) hy1 hN ⟨hd, hlo⟩) (zP.S hK hAA hS hB) rfl hn hsize rfl (by show 2 * (F0 m pc ls rest).monitorRoom + _ ≤ 8; exact lv_room hW) hdg hf) hS (fun q _ h => hAA q h) hAA (fun u t H1 locs1 ht _ hp hB hz hk hS1 => kk u H1 locs1 hp (by rw [← ht]; exact hB) hz hk hS1)
end ZLC
/-- the frame of the law's body: what holds all through -/
def zFx (p : Program) (l : Launch) (s : State) (m : MethodId) (c : Code) (b L : Nat) (xs : Nat → Int32) (g : zG) : Prop :=
  L ≤ 320 ∧ l.stackTraces = false ∧ p.tables.exec = Jvm.exec ∧ c.code = cL_law ∧ c.maxLocals = 7 ∧ s.vm.findClass RX0 = some m.cls ∧ (∀ w ∈ lw_all, w.before #[Value.ref b] s = true) ∧ va_X b L xs s s.heap ∧ b < s.heap.size ∧ zK g (fun q : Nat => s.heap.size ≤ q) s
/-- what goes on behind a call: at 2013, with the world after t + 1 calls -/
abbrev zKt (p : Program) (l : Launch) (e : Env) (s : State) (m : MethodId) (below : List Frame) (meth : Method) (c : Code) (b : Nat) (g : zG) (xo mo oa : Nat) (ma : Nat → Nat) (t cells slots : Nat) (Q : State → Prop) : Prop :=
  ∀ (S : zS) (X : zX) (f : Nat → Int64) (H : Heap) (locs : List Loc) (ls : Array Slot), zIv (t + 1) S X → zLw g (fun q : Nat => s.heap.size ≤ q) xo mo oa ma S X X f H → va_S (fun q : Nat => s.heap.size ≤ q) s.heap H locs → lv_has ls 7 [(4, .int (nI (5 * t))), (0, .ref b), (1, .ref xo), (2, .ref mo), (3, .ref oa)] → W p l e room_1 s m #[Value.ref b] below meth c H locs cells slots Q (F0 m 2013 ls [])
theorem zlen0 {args : Array Value} {s : State} {t : Term} (h : (Cond.eq (.length t) (.int 0)).before args s = true) : ∃ (a : Addr) (cell : Cell), t.eval args s none [] s = some (.ref a) ∧ s.heap[a]? = some cell ∧ cell.slots.size = 0 := by
  cases hv : (Term.length t).eval args s none [] s with
  | none => simp [Cond.before, Cond.holds, Cond.value, hv] at h
  | some v =>
    obtain ⟨a, cell, ht, harr, ev⟩ := Term.length_spec hv
    have hsz : cell.slots.size < 2 ^ 31 := by
      have hv2 := hv
      simp only [Term.eval, ht, harr, Option.bind_eq_bind, Option.bind_some] at hv2
      by_cases hlt : cell.slots.size < 2147483648
      · exact hlt
      · simp [hlt] at hv2
    rw [ev] at hv
    have hq := Cond.eq_ints hv (show (Term.int 0).eval args s none [] s = some (.int 0) from rfl)
    have hz : cell.slots.size.toInt32 = 0 := by simpa [Cond.before, Cond.holds, hq] using h
    exact ⟨a, cell, ht, (State.arrayAt?_spec harr).1, nI_inj31 hsz (by decide) hz⟩
