/-! calls of an inherited method, of an interface's method -/
theorem lw_U {own : String} {idx : Nat} {C owner : String} {x y : MethodName} {b : ByteArray} {L : Nat} {r : Option FieldType} (h1 : Cond.methodLink own idx x ∈ lw_all) (h2 : Cond.sameMethod x.cls owner x.name x.desc ∈ lw_all) (h3 : Cond.selects C x y ∈ lw_all) (h4 : Cond.instanceMethod y ∈ lw_all) (h5 : Cond.initialized y.cls ∈ lw_all) (h6 : Cond.code y b L r ∈ lw_all) : GoodIn lw_all (va_wsU own idx C owner x y (ws_ y b L r)) := by
  refine lw_app ?_ (lw_meth h6)
  intro w hw
  simp only [List.mem_cons, List.not_mem_nil, or_false] at hw
  rcases hw with e | e | e | e | e
  · rw [e]; exact h1
  · rw [e]; exact h2
  · rw [e]; exact h3
  · rw [e]; exact h4
  · rw [e]; exact h5
theorem lw_F {own : String} {idx : Nat} {C : String} {x y : MethodName} {b : ByteArray} {L : Nat} {r : Option FieldType} (h1 : Cond.methodLink own idx x ∈ lw_all) (h3 : Cond.selects C x y ∈ lw_all) (h4 : Cond.instanceMethod y ∈ lw_all) (h5 : Cond.initialized y.cls ∈ lw_all) (h6 : Cond.code y b L r ∈ lw_all) : GoodIn lw_all (va_wsF own idx C x y (ws_ y b L r)) := by
  refine lw_app ?_ (lw_meth h6)
  intro w hw
  simp only [List.mem_cons, List.not_mem_nil, or_false] at hw
  rcases hw with e | e | e | e
  · rw [e]; exact h1
  · rw [e]; exact h3
  · rw [e]; exact h4
  · rw [e]; exact h5
section ZU
variable {p : Program} {l : Launch} {e : Env} {s : State} {m : MethodId} {args : Array Value} {below : List Frame} {meth : Method} {c : Code} {H : Heap} {locs : List Loc} {cells slots : Nat} {Q : State → Prop}
variable {cc : ByteArray} {pc : Nat} {ls : Array Slot} {rest : List Value} {g : zG} {A A1 : Nat → Prop} {B0 : Heap → Prop}
variable {y : MethodName} {bytes : ByteArray} {maxL nL mc ms n index d d' mc' ms' : Nat} {ret : Option FieldType} {Qc : Array Value → State → Outcome → State → Prop} {own C : String} {b : Addr} {As : List Value}
theorem zr_U {owner : String} (CF : CallFix p m c cc nL s args lw_all own) (hM : Met l y (ws_ y bytes maxL ret) (zR d mc ms) (zP (.ref b :: As) g A1 B0) Qc mc ms A1) (hN : zN y n) (hG : GoodIn lw_all (va_wsU own index C owner y y (ws_ y bytes maxL ret))) (hyx : y = ⟨owner, y.name, y.desc⟩) (hd : d + 1 ≤ d') (hL : maxL ≤ 13) (hK : zK g A s) (hAA : ∀ q, A1 q → A q) (hS : va_S A s.heap H locs) (hB : B0 H)
    (hr : ∃ cell : Cell, H[b]? = some cell ∧ cell.vm.isStatics = false ∧ s.vm.findClass C = some cell.cls) (hn : As.length = n) (hsize : ls.size = nL) (hW : (rest.map fun v => v.category).sum ≤ 8) (hdg : decode cc pc = .ok (.invokevirtual index, 3)) (hf : cells + mc ≤ mc' ∧ slots + ms ≤ ms') :
    va_Run p l e (zR d' mc' ms') s m args below meth c H locs cells slots mc ms (F0 m pc ls (As.reverse ++ .ref b :: rest)) rest (Qc (Value.ref b :: As).toArray) A1 :=
  va_runU CF hM (va_cwU n CF.2.2.2.2 hG rfl rfl rfl hyx (by rw [hyx] at hN; exact hN) (zR.ok hd hL)) (zP.V hK hAA hS hB hr) rfl hn hsize rfl (by show 2 * (F0 m pc ls rest).monitorRoom + _ ≤ 8; exact lv_room hW) hdg hf
theorem zr_F {x : MethodName} {cC : ClassId} {count : Nat} (hat : ClassAt s C cC) (CF : CallFix p m c cc nL s args lw_all own) (hM : Met l y (ws_ y bytes maxL ret) (zR d mc ms) (zP (.ref b :: As) g A1 B0) Qc mc ms A1) (hN : zN x n) (hG : GoodIn lw_all (va_wsF own index C x y (ws_ y bytes maxL ret))) (hF : va_Fw C x y s) (hd : d + 1 ≤ d') (hL : maxL ≤ 13) (hK : zK g A s) (hAA : ∀ q, A1 q → A q) (hS : va_S A s.heap H locs) (hB : B0 H)
    (hr : ∃ cell : Cell, H[b]? = some cell ∧ cell.vm.isStatics = false ∧ s.vm.findClass C = some cell.cls) (hn : As.length = n) (hsize : ls.size = nL) (hW : (rest.map fun v => v.category).sum ≤ 8) (hdg : decode cc pc = .ok (.invokeinterface index count, 5)) (hf : cells + mc ≤ mc' ∧ slots + ms ≤ ms') :
    va_Run5 p l e (zR d' mc' ms') s m args below meth c H locs cells slots mc ms (F0 m pc ls (As.reverse ++ .ref b :: rest)) rest (Qc (Value.ref b :: As).toArray) A1 :=
  va_runF hat CF hM (va_cwF n CF.2.2.2.2 hG rfl rfl rfl hF hN (zR.ok hd hL)) (zP.V hK hAA hS hB hr) rfl hn hsize rfl (by show 2 * (F0 m pc ls rest).monitorRoom + _ ≤ 8; exact lv_room hW) hdg hf
theorem zc5_i {S : Type} {R : Room} {st0 : List Value} {a : Array Value} {post : Int32 → S → Prop} {BB : S → Heap → Prop} (hr : va_Run5 p l e R s m args below meth c H locs cells slots mc ms (F0 m pc ls st0) rest (va_Qi post (fun u t => BB u t.heap) A1 a) A1) (hS : va_S A s.heap H locs) (hAA : ∀ q, A1 q → A q)
    (kk : ∀ (r : Int32) (u : S) (H1 : Heap) (locs1 : List Loc), post r u → BB u H1 → H.size ≤ H1.size → (∀ q : Nat, q < H.size → ¬ A1 q → H1[q]? = H[q]?) → va_S A s.heap H1 locs1 → W p l e R s m args below meth c H1 locs1 (cells + mc) (slots + ms) Q (F0 m (pc + 5) ls (.int r :: rest))) : W p l e R s m args below meth c H locs cells slots Q (F0 m pc ls st0) :=
  va_callFi hr hS (fun q _ h => hAA q h) hAA (fun r u t H1 locs1 ht _ hp hB hz hk hS1 => kk r u H1 locs1 hp (by rw [← ht]; exact hB) hz hk hS1)
theorem zc5_q {S : Type} {R : Room} {st0 : List Value} {a : Array Value} {post : Option Nat → S → Prop} {BB : S → Heap → Prop} (hr : va_Run5 p l e R s m args below meth c H locs cells slots mc ms (F0 m pc ls st0) rest (va_Qq post (fun u t => BB u t.heap) A1 a) A1) (hS : va_S A s.heap H locs) (hAA : ∀ q, A1 q → A q)
    (kk : ∀ (r : Option Nat) (u : S) (H1 : Heap) (locs1 : List Loc), post r u → BB u H1 → H.size ≤ H1.size → (∀ q : Nat, q < H.size → ¬ A1 q → H1[q]? = H[q]?) → va_S A s.heap H1 locs1 → W p l e R s m args below meth c H1 locs1 (cells + mc) (slots + ms) Q (F0 m (pc + 5) ls (va_rf r :: rest))) : W p l e R s m args below meth c H locs cells slots Q (F0 m pc ls st0) :=
  va_callFq hr hS (fun q _ h => hAA q h) hAA (fun r u t H1 locs1 ht _ hp hB hz hk hS1 => kk r u H1 locs1 hp (by rw [← ht]; exact hB) hz hk hS1)
end ZU
/-- what the growing of a list's array leaves -/
def zGr (g : zG) (M : Nat → Option va_E) (a : Nat) (mu x : Value) (n mn : Nat) (f : Nat → Option Nat) (u : (Nat → Option va_E) × Nat × Nat × (Nat → Option Nat)) : Prop :=
  M u.2.1 = none ∧ zd0 g ≠ u.2.1 ∧ u.1 a = some (zo 9 [mu, .ref u.2.1, x]) ∧ u.1 u.2.1 = some (zQ g u.2.2.1 u.2.2.2) ∧ mn ≤ u.2.2.1 ∧ u.2.2.1 ≤ 160 ∧ (∀ j, j < n → u.2.2.2 j = f j) ∧ ∀ q, q ≠ a → q ≠ u.2.1 → u.1 q = M q
theorem zEM.gr {g : zG} {M : Nat → Option va_E} {a : Nat} {mu x : Value} {n mn : Nat} {f : Nat → Option Nat} {u : (Nat → Option va_E) × Nat × Nat × (Nat → Option Nat)} {z : Option Nat} (h : zEM M z) (hu : zGr g M a mu x n mn f u) : zEM u.1 z := by
  intro v hv
  obtain ⟨ci, vs, h1, h2⟩ := h v hv
  by_cases c : v = a
  · subst c
    exact ⟨9, _, hu.2.2.1, by omega⟩
  · exact ⟨ci, vs, by rw [hu.2.2.2.2.2.2.2 v c (fun q => by rw [q, hu.1] at h1; cases h1)]; exact h1, h2⟩
def zAd (g : zG) (M : Nat → Option va_E) (a b : Nat) (mu : Value) (n : Nat) (f : Nat → Option Nat) (x : Option Nat) (u : (Nat → Option va_E) × Nat × Nat × (Nat → Option Nat)) : Prop :=
  (u.2.1 = b ∨ (M u.2.1 = none ∧ zd0 g ≠ u.2.1)) ∧ u.1 a = some (zo 9 [mu, .ref u.2.1, .int (nI (n + 1))]) ∧ u.1 u.2.1 = some (zQ g u.2.2.1 u.2.2.2) ∧ n + 1 ≤ u.2.2.1 ∧ u.2.2.1 ≤ 160 ∧ (∀ j, j < n → u.2.2.2 j = f j) ∧ u.2.2.2 n = x ∧ ∀ q, q ≠ a → q ≠ u.2.1 → u.1 q = M q
theorem zAd.list {g : zG} {A : Nat → Prop} {H : Heap} {T : zT} {M : Nat → Option va_E} {bk : Nat → Nat} {a : Nat} {e : va_E} {mu mu' : Int32} {xs : List (Option Nat)} {f : Nat → Option Nat} {x : Option Nat} {u : (Nat → Option va_E) × Nat × Nat × (Nat → Option Nat)} (hTM : zTM g T M bk) (h0 : M (zd0 g) = some (zQ g 0 (fun _ => none))) (hMf : zMH g A u.1 H) (ha : T a = some (.inr (mu, xs))) (hf : ∀ j x, xs[j]? = some x → f j = x) (hu : zAd g (va_up M a (some e)) a (bk a) (.int mu') xs.length f x u) :
    zTM g (va_up T a (some (.inr (mu', xs ++ [x])))) u.1 (va_up bk a u.2.1) := by
  obtain ⟨h1, h2, h3, h4, h5, h6, h7, h8⟩ := hu
  have hba : u.2.1 ≠ a := fun z => by rw [z] at h3; have := h3.symm.trans h2; cases this
  have hd : u.2.1 ≠ zd0 g := fun z => by
    rw [z] at h3
    have y := Option.some.inj (h3.symm.trans hMf.2.2.2.1)
    have y := congrArg Prod.fst (congrArg Prod.snd (Sum.inl.inj y))
    have y : u.2.2.1 = 0 := y
    omega
  refine hTM.list h0 ha (b' := u.2.1) ⟨by rw [List.length_append]; exact h2, u.2.2.1, u.2.2.2, h3, by rw [List.length_append]; exact h4, h5, fun z => by omega, fun j y hj => ?_⟩ ?_ (fun z => absurd z hd) (fun q q1 q2 => (h8 q q1 q2).trans (va_up_ne _ _ q1))
  · by_cases c : j < xs.length
    · rw [List.getElem?_append_left c] at hj
      rw [h6 j c]
      exact hf j y hj
    · rw [List.getElem?_append_right (by omega)] at hj
      have hz : j - xs.length < 1 := (List.getElem?_eq_some_iff.mp hj).1
      have hjl : j = xs.length := by omega
      subst hjl
      rw [Nat.sub_self] at hj
      cases hj
      exact h7
  · rcases h1 with z | ⟨z, y⟩
    · exact Or.inl z
    · rw [va_up_ne _ _ hba] at z
      exact Or.inr ⟨z, y⟩
/-- a list's array with one element taken out -/
def zRm (g : zG) (M : Nat → Option va_E) (a b cap n i : Nat) (mu : Int32) (f : Nat → Option Nat) (u : (Nat → Option va_E) × (Nat → Option Nat)) : Prop :=
  u.1 a = some (zo 9 [.int (mu + 1), .ref b, .int (nI (n - 1))]) ∧ u.1 b = some (zQ g cap u.2) ∧ (∀ j, j < n - 1 → u.2 j = if j < i then f j else f (j + 1)) ∧ ∀ q, q ≠ a → q ≠ b → u.1 q = M q
theorem zRm.list {g : zG} {T : zT} {M : Nat → Option va_E} {bk : Nat → Nat} {a cap i : Nat} {mu : Int32} {xs : List (Option Nat)} {f : Nat → Option Nat} {u : (Nat → Option va_E) × (Nat → Option Nat)} (hTM : zTM g T M bk) (h0 : M (zd0 g) = some (zQ g 0 (fun _ => none))) (ha : T a = some (.inr (mu, xs))) (hb : M (bk a) = some (zQ g cap f)) (hlen : xs.length ≤ cap) (hcap : cap ≤ 160) (hi : i < xs.length) (hf : ∀ j x, xs[j]? = some x → f j = x) (hu : zRm g M a (bk a) cap xs.length i mu f u) :
    zTM g (va_up T a (some (.inr (mu + 1, xs.eraseIdx i)))) u.1 (va_up bk a (bk a)) := by
  obtain ⟨h1, h2, h3, h4⟩ := hu
  have hlen2 : (xs.eraseIdx i).length = xs.length - 1 := by rw [List.length_eraseIdx, if_pos hi]
  refine hTM.list h0 ha (b' := bk a) ⟨by rw [hlen2]; exact h1, cap, u.2, h2, by omega, hcap, fun z => by omega, fun j y hj => ?_⟩ (Or.inl rfl) (fun z => ?_) h4
  · have hjl := (List.getElem?_eq_some_iff.mp hj).1
    rw [List.getElem?_eraseIdx] at hj
    rw [h3 j (by omega)]
    split
    · next c => rw [if_pos c] at hj; exact hf j y hj
    · next c => rw [if_neg c] at hj; exact hf _ y hj
  · rw [z, h0] at hb
    cases hb
    omega
section ZEQ
variable {p : Program} {l : Launch} {e : Env} {s : State} {m : MethodId} {args : Array Value} {below : List Frame} {meth : Method} {c : Code} {H : Heap} {locs : List Loc} {cells slots : Nat}
variable {cc : ByteArray} {pc : Nat} {ls : Array Slot} {rest : List Value} {g : zG} {A : Nat → Prop} {M : Nat → Option va_E} {nL d' mc' ms' v ci : Nat} {vs : List Value} {x : Option Nat}
theorem zr_eq (CF : CallFix p m c cc nL s args lw_all RJ2) (hd : 2 ≤ d') (hK : zK g A s) (hS : va_S A s.heap H locs) (hM : zMH g A M H) (hv : M v = some (zo ci vs)) (hci : ci = 3 ∨ ci = 8) (hsize : ls.size = nL) (hW : (rest.map fun v => v.category).sum ≤ 8) (hdg : decode cc pc = .ok (.invokevirtual 93, 3)) (hf : cells ≤ mc' ∧ slots ≤ ms') :
    va_Run p l e (zR d' mc' ms') s m args below meth c H locs cells slots 0 0 (F0 m pc ls (va_rf x :: .ref v :: rest)) rest (va_Qi (fun rz_ (_ : Unit) => rz_ = zb (decide (some v = x))) (fun (_ : Unit) t => zMH g A M t.heap) A #[.ref v, va_rf x]) A := by
  rcases hci with rfl | rfl
  · exact zr_U (As := [va_rf x]) (owner := "java/lang/Object") CF (ct_J17_equals l g A (zMH g A M) v x) zn_J17_equals (lw_U q602 q604 q609 q603 q1352 q618) rfl hd (by decide) hK (fun _ h => h) hS hM (zm_recv hK.1 hM hv rfl) rfl hsize hW hdg hf
  · exact zr_U (As := [va_rf x]) (owner := "java/lang/Object") CF (ct_J17_equals l g A (zMH g A M) v x) zn_J17_equals (lw_U q602 q604 q608 q603 q1352 q618) rfl hd (by decide) hK (fun _ h => h) hS hM (zm_recv hK.1 hM hv rfl) rfl hsize hW hdg hf
end ZEQ
