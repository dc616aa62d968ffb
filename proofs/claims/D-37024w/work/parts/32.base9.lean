/-! METHODS THAT MAY THROW: nothing was written, the map is as it was. -/
def zXC (P : String → Prop) (g : zG) (A : Nat → Prop) (T : zT) : String → State → State → Prop := vx_X (fun (_ : Unit) => True) (fun E _ t => P E ∧ zTH g A T t.heap) A
theorem zb_xmet {l : Launch} {y : MethodName} {cc : ByteArray} {maxL : Nat} {ret : Option FieldType} {d mc ms : Nat} {av : List Value} {g : zG} {A : Nat → Prop} {B0 : Heap → Prop} {Qc : Array Value → State → Outcome → State → Prop} {XC : String → State → State → Prop} (hy : plainName y.cls = true) (hlen : (lg_sl av).length ≤ maxL)
    (body : ∀ (p : Program) (e : Env) (s : State) (m : MethodId) (args : Array Value) (below : List Frame) (meth : Method) (c : Code) (ls : Array Slot), p.tables.exec = Jvm.exec → c.code = cc → meth.sig.returnType = ret → c.maxLocals = maxL → s.vm.findClass y.cls = some m.cls → (∀ w ∈ lw_all, w.before args s = true) → meth.locks = false → meth.name = y.name → zK g A s → B0 s.heap → args = av.toArray → lv_has ls maxL (lv_args 0 av) → (∀ pc, ∀ x ∈ c.exceptionTable.toList, covers x pc = false) →
      W p l e (zR d mc ms) s m args below meth c s.heap [] 0 0 (vx_MQ below Qc XC args s mc ms A) (F0 m 0 ls [])) : vx_Met l y (ws_ y cc maxL ret) (zR d mc ms) (zP av g A B0) Qc XC mc ms A := by
  refine vx_ofW (cc := cc) (maxL := maxL) (ret := ret) hy rfl ?_
  intro p e s m args below meth c s₁ B hml hno hv
  obtain ⟨rfl, hK, hB⟩ := hv
  have hts := atoms_spec (ws := ws_ y cc maxL ret) B.pre
  have hts : ∀ w ∈ lw_all, w.before _ s = true := fun w h => hts w (List.mem_cons_of_mem _ h)
  have hown : s.vm.findClass y.cls = some m.cls := findClass_of_methodNamed B.named
  rw [lg_entry_eq]
  exact body p e s m _ below meth c _ B.exec B.bytes B.returns hml hown hts B.notSynchronized (name_of_methodNamed B.named B.method).1 hK hB rfl (lv_entry av hlen) (fun _ x hx => (hno x hx).elim)
section ZXR
variable {p : Program} {l : Launch} {e : Env} {s : State} {m : MethodId} {args : Array Value} {below : List Frame} {meth : Method} {c : Code} {H : Heap} {locs : List Loc} {cells slots : Nat} {Q : State → Prop}
variable {cc : ByteArray} {pc : Nat} {ls : Array Slot} {rest : List Value} {g : zG} {A A1 : Nat → Prop} {B0 : Heap → Prop}
variable {y : MethodName} {bytes : ByteArray} {maxL nL mc ms n index d d' mc' ms' : Nat} {ret : Option FieldType} {Qc Qd : Array Value → State → Outcome → State → Prop} {XC : String → State → State → Prop} {own C : String} {b : Addr} {As : List Value}
theorem zxr_V (CF : CallFix p m c cc nL s args lw_all own) (hM : vx_Met l y (ws_ y bytes maxL ret) (zR d mc ms) (zP (.ref b :: As) g A1 B0) Qc XC mc ms A1) (hN : zN y n) (hG : GoodIn lw_all (wsV own index C y (ws_ y bytes maxL ret))) (hC : y.cls = C) (hd : d + 1 ≤ d') (hL : maxL ≤ 13) (hK : zK g A s) (hAA : ∀ q, A1 q → A q) (hS : va_S A s.heap H locs) (hB : B0 H)
    (hr : ∃ cell : Cell, H[b]? = some cell ∧ cell.vm.isStatics = false ∧ s.vm.findClass C = some cell.cls) (hn : As.length = n) (hsize : ls.size = nL) (hW : (rest.map fun v => v.category).sum ≤ 8) (hdg : decode cc pc = .ok (.invokevirtual index, 3)) (hf : cells + mc ≤ mc' ∧ slots + ms ≤ ms') :
    vx_Run p l e (zR d' mc' ms') s m args below meth c H locs cells slots mc ms (F0 m pc ls (As.reverse ++ .ref b :: rest)) rest (Qc (Value.ref b :: As).toArray) XC A1 :=
  vx_runV CF hM (cwV n CF.2.2.2.2 hG rfl rfl rfl ⟨hC, hN⟩ (zR.ok hd hL)) (zP.V hK hAA hS hB hr) rfl hn hsize rfl (by show 2 * (F0 m pc ls rest).monitorRoom + _ ≤ 8; exact lv_room hW) hdg hf
theorem zxr_S (CF : CallFix p m c cc nL s args lw_all own) (hM : vx_Met l y (ws_ y bytes maxL ret) (zR d mc ms) (zP As g A1 B0) Qc XC mc ms A1) (hN : zN y n) (hG : GoodIn lw_all (va_wsS own index y (ws_ y bytes maxL ret))) (hd : d + 1 ≤ d') (hL : maxL ≤ 13) (hK : zK g A s) (hAA : ∀ q, A1 q → A q) (hS : va_S A s.heap H locs) (hB : B0 H)
    (hn : As.length = n) (hsize : ls.size = nL) (hW : (rest.map fun v => v.category).sum ≤ 8) (hdg : decode cc pc = .ok (.invokestatic index, 3)) (hf : cells + mc ≤ mc' ∧ slots + ms ≤ ms') :
    vx_Run p l e (zR d' mc' ms') s m args below meth c H locs cells slots mc ms (F0 m pc ls (As.reverse ++ rest)) rest (Qc As.toArray) XC A1 :=
  vx_runS CF hM (va_cwS n CF.2.2.2.2 hG rfl rfl rfl hN (zR.ok hd hL)) (zP.S hK hAA hS hB) rfl hn hsize rfl (by show 2 * (F0 m pc ls rest).monitorRoom + _ ≤ 8; exact lv_room hW) hdg hf
theorem zxr_SN {host : String} (CF : CallFix p m c cc nL s args lw_all own) (hM : vx_Met l y (ws_ y bytes maxL ret) (zR d mc ms) (zP As g A1 B0) Qc XC mc ms A1) (hN : zN y n) (hcw : Cond.code y bytes maxL ret ∈ lw_all) (hini : Cond.initialized y.cls ∈ lw_all) (hl : Cond.methodLinkNest own index y host ∈ lw_tbl) (hst : Cond.static y ∈ lw_all) (hd : d + 1 ≤ d') (hL : maxL ≤ 13) (hK : zK g A s) (hAA : ∀ q, A1 q → A q) (hS : va_S A s.heap H locs) (hB : B0 H)
    (hn : As.length = n) (hsize : ls.size = nL) (hW : (rest.map fun v => v.category).sum ≤ 8) (hdg : decode cc pc = .ok (.invokestatic index, 3)) (hf : cells + mc ≤ mc' ∧ slots + ms ≤ ms') :
    vx_Run p l e (zR d' mc' ms') s m args below meth c H locs cells slots mc ms (F0 m pc ls (As.reverse ++ rest)) rest (Qc As.toArray) XC A1 :=
  vx_runSN CF hM ⟨va_cnB n CF.2.2.2.2 (lw_meth hcw) rfl rfl rfl (hK.2.1.2.1 _ _ _ _ hl) (CF.2.2.2.2 _ hini) hN (zR.ok hd hL), CF.2.2.2.2 _ hst, trivial⟩ (zP.S hK hAA hS hB) rfl hn hsize rfl (by show 2 * (F0 m pc ls rest).monitorRoom + _ ≤ 8; exact lv_room hW) hdg hf
theorem zx_pass {P P' : String → Prop} {T : zT} {E : String} {ce : Cell} {q9 : Addr} {t : State} {H1 : Heap} {locs1 : List Loc} {c1 s1 : Nat} {R : Room} (hout : ∀ pc, ∀ x ∈ c.exceptionTable.toList, covers x pc = false) (hlocks : meth.locks = false) (hP : ∀ E, P E → P' E) (ht : t.heap = H1) (hB : P E ∧ zTH g A T t.heap) (hS : va_S A s.heap H1 locs1) (h1 : H1[q9]? = some ce) (h2 : ce.vm = .none) (h3 : s.vm.findClass E = some ce.cls) (hc : c1 ≤ mc') (hs : s1 ≤ ms') :
    vx_W p l e R s m args below meth c H1 locs1 c1 s1 (vx_MQ below Qd (zXC P' g A T) args s mc' ms' A) (F0 m pc ls rest) q9 :=
  vx_out (hout pc) hlocks h1 h2 h3 (fun t2 h4 _ => ⟨(), trivial, ⟨hP E hB.1, by rw [h4, ← ht]; exact hB.2⟩, hS.F h4⟩) hS.2.2 hc hs
theorem zxc_i {S : Type} {P P' : String → Prop} {T : zT} {R : Room} {st0 : List Value} {a : Array Value} {post : Int32 → S → Prop} {BB : S → Heap → Prop} (hr : vx_Run p l e R s m args below meth c H locs cells slots mc ms (F0 m pc ls st0) rest (va_Qi post (fun u t => BB u t.heap) A a) (zXC P g A T) A) (hS : va_S A s.heap H locs) (hout : ∀ pc, ∀ x ∈ c.exceptionTable.toList, covers x pc = false) (hlocks : meth.locks = false) (hP : ∀ E, P E → P' E) (hc : cells + mc ≤ mc') (hs : slots + ms ≤ ms')
    (kk : ∀ (r : Int32) (u : S) (H1 : Heap) (locs1 : List Loc), post r u → BB u H1 → H.size ≤ H1.size → (∀ q : Nat, q < H.size → ¬ A q → H1[q]? = H[q]?) → va_S A s.heap H1 locs1 → W p l e R s m args below meth c H1 locs1 (cells + mc) (slots + ms) (vx_MQ below Qd (zXC P' g A T) args s mc' ms' A) (F0 m (pc + 3) ls (.int r :: rest))) : W p l e R s m args below meth c H locs cells slots (vx_MQ below Qd (zXC P' g A T) args s mc' ms' A) (F0 m pc ls st0) :=
  vx_calli hr hS (fun _ _ h => h) (fun _ h => h) (fun _ _ h => h) (fun E ce q9 u t H1 locs1 ht _ _ hB _ _ hS1 h1 h2 h3 => zx_pass hout hlocks hP ht hB hS1 h1 h2 h3 hc hs) (fun r u t H1 locs1 ht _ hp hB hz hk hS1 => kk r u H1 locs1 hp (by rw [← ht]; exact hB) hz hk hS1)
theorem zxc_v {S : Type} {P P' : String → Prop} {T : zT} {R : Room} {st0 : List Value} {a : Array Value} {post : S → Prop} {BB : S → Heap → Prop} (hr : vx_Run p l e R s m args below meth c H locs cells slots mc ms (F0 m pc ls st0) rest (va_Qv post (fun u t => BB u t.heap) A a) (zXC P g A T) A) (hS : va_S A s.heap H locs) (hout : ∀ pc, ∀ x ∈ c.exceptionTable.toList, covers x pc = false) (hlocks : meth.locks = false) (hP : ∀ E, P E → P' E) (hc : cells + mc ≤ mc') (hs : slots + ms ≤ ms')
    (kk : ∀ (u : S) (H1 : Heap) (locs1 : List Loc), post u → BB u H1 → H.size ≤ H1.size → (∀ q : Nat, q < H.size → ¬ A q → H1[q]? = H[q]?) → va_S A s.heap H1 locs1 → W p l e R s m args below meth c H1 locs1 (cells + mc) (slots + ms) (vx_MQ below Qd (zXC P' g A T) args s mc' ms' A) (F0 m (pc + 3) ls rest)) : W p l e R s m args below meth c H locs cells slots (vx_MQ below Qd (zXC P' g A T) args s mc' ms' A) (F0 m pc ls st0) :=
  vx_callv hr hS (fun _ _ h => h) (fun _ h => h) (fun _ _ h => h) (fun E ce q9 u t H1 locs1 ht _ _ hB _ _ hS1 h1 h2 h3 => zx_pass hout hlocks hP ht hB hS1 h1 h2 h3 hc hs) (fun u t H1 locs1 ht _ hp hB hz hk hS1 => kk u H1 locs1 hp (by rw [← ht]; exact hB) hz hk hS1)
theorem zxc_q {S : Type} {P P' : String → Prop} {T : zT} {R : Room} {st0 : List Value} {a : Array Value} {post : Option Nat → S → Prop} {BB : S → Heap → Prop} (hr : vx_Run p l e R s m args below meth c H locs cells slots mc ms (F0 m pc ls st0) rest (va_Qq post (fun u t => BB u t.heap) A a) (zXC P g A T) A) (hS : va_S A s.heap H locs) (hout : ∀ pc, ∀ x ∈ c.exceptionTable.toList, covers x pc = false) (hlocks : meth.locks = false) (hP : ∀ E, P E → P' E) (hc : cells + mc ≤ mc') (hs : slots + ms ≤ ms')
    (kk : ∀ (r : Option Nat) (u : S) (H1 : Heap) (locs1 : List Loc), post r u → BB u H1 → H.size ≤ H1.size → (∀ q : Nat, q < H.size → ¬ A q → H1[q]? = H[q]?) → va_S A s.heap H1 locs1 → W p l e R s m args below meth c H1 locs1 (cells + mc) (slots + ms) (vx_MQ below Qd (zXC P' g A T) args s mc' ms' A) (F0 m (pc + 3) ls (va_rf r :: rest))) : W p l e R s m args below meth c H locs cells slots (vx_MQ below Qd (zXC P' g A T) args s mc' ms' A) (F0 m pc ls st0) :=
  vx_callq hr hS (fun _ _ h => h) (fun _ h => h) (fun _ _ h => h) (fun E ce q9 u t H1 locs1 ht _ _ hB _ _ hS1 h1 h2 h3 => zx_pass hout hlocks hP ht hB hS1 h1 h2 h3 hc hs) (fun r u t H1 locs1 ht _ hp hB hz hk hS1 => kk r u H1 locs1 hp (by rw [← ht]; exact hB) hz hk hS1)
end ZXR
abbrev xIA : String := "java/lang/IllegalArgumentException"
abbrev xIS : String := "java/lang/IllegalStateException"
abbrev xIO : String := "java/lang/IndexOutOfBoundsException"
def za_need : List Cond := vx_at0 RX1 54 xIA ["java/lang/RuntimeException", "java/lang/Exception"]
theorem za_need_in : ∀ w ∈ za_need.filter goodWord, w ∈ lw_all := lw_in _ [49, 290, 299, 304, 307, 309, 291, 292, 72, 73, 293, 298, 305, 322, 280, 323, 282, 324, 284, 294, 296, 286, 311, 312, 313, 314, 314, 315, 316, 317, 317, 318, 319, 291, 310, 269, 277, 278, 279, 281, 283, 285, 289, 288, 287] (by decide +kernel) (by decide +kernel)
theorem za_need_ot : (Cond.classLink RX1 52 xIA :: Cond.initialized xIA :: za_need).all vx_ot = true := by decide +kernel
theorem za_need_no : za_need.filter (fun w => !goodWord w) = [.declares ⟨"java/lang/RuntimeException", "<init>", "()V"⟩, .declares ⟨"java/lang/Exception", "<init>", "()V"⟩, .declares ⟨"java/lang/Throwable", "<init>", "()V"⟩, .castable xIA xIA] := by decide +kernel
theorem zn_X1_need : zN yX1_need 1 := by decide +kernel
theorem ct_X1_need (l : Launch) (hl0 : l.stackTraces = false) (g : zG) (A : Nat → Prop) (T : zT) (b : Bool) : vx_Met l yX1_need (ws_ yX1_need cX1_need 1 none) (zR 6 1 6) (zP [.int (zb b)] g A (zTH g A T)) (va_Qv (fun (_ : Unit) => b = true) (fun (_ : Unit) t => zTH g A T t.heap) A) (zXC (fun E => E = xIA ∧ b = false) g A T) 1 6 A := by
  refine zb_xmet (by decide) (Nat.le_of_ble_eq_true rfl) ?_
  intro p e s m args below meth c ls hx hb hr hml hown hts hlocks hnm hK hT ha hl hout
  have hown : s.vm.findClass RX1 = some m.cls := hown
  have hS : va_S A s.heap s.heap [] := va_S.rf
  have hl : lv_has ls 1 [(0, .int (zb b))] := hl
  refine lv_iload_n hx hb dX1_need_0 rfl (lv_at hl 0 rfl) ?_
  refine zl_ifne (tgt := 12) hx hb dX1_need_1 (by decide) (fun c_1 => ?_) (fun c_1 => ?_)
  · exact vx_ret (ze_v hx hb hr hlocks hS dX1_need_12 (Nat.zero_le _) (Nat.zero_le _) () c_1 hT)
  · refine vx_throw0 (names := ["java/lang/RuntimeException", "java/lang/Exception"]) hx hb hl0 hown (by decide +kernel) (by decide +kernel) (hts _ q268) (hts _ q52) ?_ (List.all_eq_true.mp za_need_ot) hK.2.2.1.2.1 hK.2.2.1.2.2 hS (by rw [hml]; exact hl.1) dX1_need_4 dX1_need_7 dX1_need_8 dX1_need_11 (hout _) (by decide) (by decide) (Nat.le_refl _) (Nat.le_refl _) hlocks (fun t _ h1 h2 => ⟨(), trivial, ⟨⟨rfl, c_1⟩, hT.kept h1 h2⟩, h1, fun q h3 _ => h2 q h3⟩) (fun z hz => nomatch hz) (Nat.le_refl _) (Nat.le_refl _)
    refine vx_hat (fun w h => hts w (za_need_in w h)) (B := _) (fun w h => h) ?_
    show ∀ w ∈ za_need.filter (fun w => !goodWord w), _
    rw [za_need_no]
    exact vx_c (va_Nw.use rfl (hK.2.1.2.2.2.1 _ q271)) (vx_c (va_Nw.use rfl (hK.2.1.2.2.2.1 _ q273)) (vx_c (va_Nw.use rfl (hK.2.1.2.2.2.1 _ q275)) (vx_c (va_Nw.use rfl (hK.2.1.2.2.1 _ _ q270)) vx_n)))
def za_needState : List Cond := vx_at0 RX1 57 xIS ["java/lang/RuntimeException", "java/lang/Exception"]
theorem za_needState_in : ∀ w ∈ za_needState.filter goodWord, w ∈ lw_all := lw_in _ [49, 290, 299, 304, 307, 309, 291, 292, 72, 73, 293, 298, 305, 322, 280, 323, 282, 324, 284, 294, 296, 286, 351, 352, 353, 314, 314, 315, 316, 317, 317, 318, 319, 291, 350, 342, 344, 302, 345, 346, 347, 348, 289, 288, 349] (by decide +kernel) (by decide +kernel)
theorem za_needState_ot : (Cond.classLink RX1 55 xIS :: Cond.initialized xIS :: za_needState).all vx_ot = true := by decide +kernel
theorem za_needState_no : za_needState.filter (fun w => !goodWord w) = [.declares ⟨"java/lang/RuntimeException", "<init>", "()V"⟩, .declares ⟨"java/lang/Exception", "<init>", "()V"⟩, .declares ⟨"java/lang/Throwable", "<init>", "()V"⟩, .castable xIS xIS] := by decide +kernel
theorem zn_X1_needState : zN yX1_needState 1 := by decide +kernel
theorem ct_X1_needState (l : Launch) (hl0 : l.stackTraces = false) (g : zG) (A : Nat → Prop) (T : zT) (b : Bool) : vx_Met l yX1_needState (ws_ yX1_needState cX1_needState 1 none) (zR 6 1 6) (zP [.int (zb b)] g A (zTH g A T)) (va_Qv (fun (_ : Unit) => b = true) (fun (_ : Unit) t => zTH g A T t.heap) A) (zXC (fun E => E = xIS ∧ b = false) g A T) 1 6 A := by
  refine zb_xmet (by decide) (Nat.le_of_ble_eq_true rfl) ?_
  intro p e s m args below meth c ls hx hb hr hml hown hts hlocks hnm hK hT ha hl hout
  have hown : s.vm.findClass RX1 = some m.cls := hown
  have hS : va_S A s.heap s.heap [] := va_S.rf
  have hl : lv_has ls 1 [(0, .int (zb b))] := hl
  refine lv_iload_n hx hb dX1_needState_0 rfl (lv_at hl 0 rfl) ?_
  refine zl_ifne (tgt := 12) hx hb dX1_needState_1 (by decide) (fun c_1 => ?_) (fun c_1 => ?_)
  · exact vx_ret (ze_v hx hb hr hlocks hS dX1_needState_12 (Nat.zero_le _) (Nat.zero_le _) () c_1 hT)
  · refine vx_throw0 (names := ["java/lang/RuntimeException", "java/lang/Exception"]) hx hb hl0 hown (by decide +kernel) (by decide +kernel) (hts _ q341) (hts _ q53) ?_ (List.all_eq_true.mp za_needState_ot) hK.2.2.1.2.1 hK.2.2.1.2.2 hS (by rw [hml]; exact hl.1) dX1_needState_4 dX1_needState_7 dX1_needState_8 dX1_needState_11 (hout _) (by decide) (by decide) (Nat.le_refl _) (Nat.le_refl _) hlocks (fun t _ h1 h2 => ⟨(), trivial, ⟨⟨rfl, c_1⟩, hT.kept h1 h2⟩, h1, fun q h3 _ => h2 q h3⟩) (fun z hz => nomatch hz) (Nat.le_refl _) (Nat.le_refl _)
    refine vx_hat (fun w h => hts w (za_needState_in w h)) (B := _) (fun w h => h) ?_
    show ∀ w ∈ za_needState.filter (fun w => !goodWord w), _
    rw [za_needState_no]
    exact vx_c (va_Nw.use rfl (hK.2.1.2.2.2.1 _ q271)) (vx_c (va_Nw.use rfl (hK.2.1.2.2.2.1 _ q273)) (vx_c (va_Nw.use rfl (hK.2.1.2.2.2.1 _ q275)) (vx_c (va_Nw.use rfl (hK.2.1.2.2.1 _ _ q343)) vx_n)))
def za_needIndex : List Cond := vx_at0 RX1 51 xIO ["java/lang/RuntimeException", "java/lang/Exception"]
theorem za_needIndex_in : ∀ w ∈ za_needIndex.filter goodWord, w ∈ lw_all := lw_in _ [49, 290, 299, 304, 307, 309, 291, 292, 72, 73, 293, 298, 305, 322, 280, 323, 282, 324, 284, 294, 296, 286, 532, 533, 534, 314, 314, 315, 316, 317, 317, 318, 319, 291, 531, 523, 525, 303, 526, 527, 528, 529, 289, 288, 530] (by decide +kernel) (by decide +kernel)
theorem za_needIndex_ot : (Cond.classLink RX1 49 xIO :: Cond.initialized xIO :: za_needIndex).all vx_ot = true := by decide +kernel
theorem za_needIndex_no : za_needIndex.filter (fun w => !goodWord w) = [.declares ⟨"java/lang/RuntimeException", "<init>", "()V"⟩, .declares ⟨"java/lang/Exception", "<init>", "()V"⟩, .declares ⟨"java/lang/Throwable", "<init>", "()V"⟩, .castable xIO xIO] := by decide +kernel
theorem zn_X1_needIndex : zN yX1_needIndex 1 := by decide +kernel
theorem ct_X1_needIndex (l : Launch) (hl0 : l.stackTraces = false) (g : zG) (A : Nat → Prop) (T : zT) (b : Bool) : vx_Met l yX1_needIndex (ws_ yX1_needIndex cX1_needIndex 1 none) (zR 6 1 6) (zP [.int (zb b)] g A (zTH g A T)) (va_Qv (fun (_ : Unit) => b = true) (fun (_ : Unit) t => zTH g A T t.heap) A) (zXC (fun E => E = xIO ∧ b = false) g A T) 1 6 A := by
  refine zb_xmet (by decide) (Nat.le_of_ble_eq_true rfl) ?_
  intro p e s m args below meth c ls hx hb hr hml hown hts hlocks hnm hK hT ha hl hout
  have hown : s.vm.findClass RX1 = some m.cls := hown
  have hS : va_S A s.heap s.heap [] := va_S.rf
  have hl : lv_has ls 1 [(0, .int (zb b))] := hl
  refine lv_iload_n hx hb dX1_needIndex_0 rfl (lv_at hl 0 rfl) ?_
  refine zl_ifne (tgt := 12) hx hb dX1_needIndex_1 (by decide) (fun c_1 => ?_) (fun c_1 => ?_)
  · exact vx_ret (ze_v hx hb hr hlocks hS dX1_needIndex_12 (Nat.zero_le _) (Nat.zero_le _) () c_1 hT)
  · refine vx_throw0 (names := ["java/lang/RuntimeException", "java/lang/Exception"]) hx hb hl0 hown (by decide +kernel) (by decide +kernel) (hts _ q522) (hts _ q56) ?_ (List.all_eq_true.mp za_needIndex_ot) hK.2.2.1.2.1 hK.2.2.1.2.2 hS (by rw [hml]; exact hl.1) dX1_needIndex_4 dX1_needIndex_7 dX1_needIndex_8 dX1_needIndex_11 (hout _) (by decide) (by decide) (Nat.le_refl _) (Nat.le_refl _) hlocks (fun t _ h1 h2 => ⟨(), trivial, ⟨⟨rfl, c_1⟩, hT.kept h1 h2⟩, h1, fun q h3 _ => h2 q h3⟩) (fun z hz => nomatch hz) (Nat.le_refl _) (Nat.le_refl _)
    refine vx_hat (fun w h => hts w (za_needIndex_in w h)) (B := _) (fun w h => h) ?_
    show ∀ w ∈ za_needIndex.filter (fun w => !goodWord w), _
    rw [za_needIndex_no]
    exact vx_c (va_Nw.use rfl (hK.2.1.2.2.2.1 _ q271)) (vx_c (va_Nw.use rfl (hK.2.1.2.2.2.1 _ q273)) (vx_c (va_Nw.use rfl (hK.2.1.2.2.2.1 _ q275)) (vx_c (va_Nw.use rfl (hK.2.1.2.2.1 _ _ q524)) vx_n)))
