/-! ROADS: the search's rows, and what lists may hold -/
theorem zEl.up {T : zT} {y : Option Nat} (h : zEl T y) {t ci : Nat} {fs : List Value} (ht : T t = some (.inl (zo ci fs))) (hc : ci ≠ 3 ∧ ci ≠ 5 ∧ ci ≠ 8) (e : Option zE) : zEl (va_up T t e) y := by
  intro v hv
  rcases h v hv with ⟨c2, vs, h1, h2⟩ | ⟨w, h1⟩
  · refine Or.inl ⟨c2, vs, ?_, h2⟩
    rw [va_up_ne _ _ (fun z => by rw [z, ht] at h1; cases h1; omega)]; exact h1
  · refine Or.inr ⟨w, ?_⟩
    rw [va_up_ne _ _ (fun z => by rw [z, ht] at h1; cases h1)]; exact h1
theorem zEl.fresh {T : zT} {y : Option Nat} (h : zEl T y) {t : Nat} (ht : T t = none) (e : Option zE) : zEl (va_up T t e) y := by
  intro v hv
  rcases h v hv with ⟨c2, vs, h1, h2⟩ | ⟨w, h1⟩
  · refine Or.inl ⟨c2, vs, ?_, h2⟩
    rw [va_up_ne _ _ (fun z => by rw [z, ht] at h1; cases h1)]; exact h1
  · refine Or.inr ⟨w, ?_⟩
    rw [va_up_ne _ _ (fun z => by rw [z, ht] at h1; cases h1)]; exact h1
section ZT6
variable {p : Program} {l : Launch} {e : Env} {R : Room} {s : State} {m : MethodId} {args : Array Value} {below : List Frame} {meth : Method} {c : Code} {H : Heap} {H0 : Heap} {locs : List Loc} {cells slots : Nat} {Q : State → Prop}
variable {cc : ByteArray} {pc : Nat} {ls : Array Slot} {rest : List Value} {g : zG} {A : Nat → Prop} {T : zT} {a : Nat}
theorem zt_copyI (hexec : p.tables.exec = Jvm.exec) (hb : c.code = cc) (hml : c.maxLocals = ls.size) {own : String} {index : Nat} (hown : s.vm.findClass own = some m.cls) (hlink : (Cond.methodLink own index arraycopyName).before args s = true) (hnat : (Cond.native arraycopyName).before args s = true) (hstat : (Cond.static arraycopyName).before args s = true) (hini : (Cond.initialized "java/lang/System").before args s = true)
    (hK : va_K g.1 zCl (zTy g) s) (hT : zTH g A T H) (hS : va_S A H0 H locs) {a0 n0 n1 : Nat} {f h : Nat → Int32} (ha0 : T a0 = some (.inl (zI g n0 f))) (ha1 : T a = some (.inl (zI g n1 h))) (hA : A a) (hn0 : n0 < 2 ^ 31) (hn1 : n1 < 2 ^ 31)
    {sp dp n : Nat} (h4 : sp + n ≤ n0) (h5 : dp + n ≤ n1) (h00 : 0 < n0) (hframes : 1 ≤ R.frames) (hlocals : (rest.map fun v => v.category).sum + (nativeFrameWords "java/lang/System" "arraycopy" 5 + 11) ≤ R.locals) (hdg : decode cc pc = .ok (.invokestatic index, 3))
    (kk : ∀ (H1 : Heap) (locs1 : List Loc), zTH g A (va_up T a (some (.inl (zI g n1 (va_cpy f h sp dp n))))) H1 → va_S A H0 H1 locs1 → W p l e R s m args below meth c H1 locs1 cells slots Q (F0 m (pc + 3) ls rest)) : W p l e R s m args below meth c H locs cells slots Q (F0 m pc ls (.int (nI n) :: .int (nI dp) :: .ref a :: .int (nI sp) :: .ref a0 :: rest)) := by
  obtain ⟨M, bk, hM, hTM⟩ := hT
  exact zm_copyI hexec hb hml hown hlink hnat hstat hini hK hM hS (hTM.1 _ _ ha0) (hTM.1 _ _ ha1) hA hn0 hn1 h4 h5 h00 hframes hlocals hdg (fun H1 locs1 h1 h2 => kk H1 locs1 ⟨_, _, h1, hTM.put ha1 _⟩ h2)
end ZT6
theorem zb_and3 : ∀ a b c : Bool, 1 &&& zb a &&& zb b &&& zb c = zb (a && b && c) := by decide
def zmt (S : zS) : Bool := decide ((S.Rd 0).length = 0) && decide ((S.Rd 1).length = 0) && decide ((S.Rd 2).length = 0)
def zwt (W : List zC3) (k : Nat) : Int32 := (W[k]?.map (fun e => e.2.2)).getD 0
theorem zwt_e {W : List zC3} {k : Nat} {e : zC3} (h : W[k]? = some e) : zwt W k = e.2.2 := by unfold zwt; rw [h]; rfl
/-- those on a road ahead of one; how many of them go out before it -/
def zsa (tf : Nat → Int32) (rd : Int32) (k : Nat) : Bool := decide (tf k = rd)
def zsb (W : List zC3) (tf : Nat → Int32) (one : Nat) (rd : Int32) (k : Nat) : Bool := decide (tf k = rd) && decide (zwt W k < zwt W one)
def zsm (W : List zC3) (tf : Nat → Int32) (one : Nat) (rd : Int32) : Nat := if zct (zsa tf rd) one < 4 then zct (zsb W tf one rd) one else 1000
abbrev zG3 : Type := Int32 × (Nat → Int32) × (Nat → Int32)
def zS.gv (S : zS) (s : zG3) : zS := S.gS s.1 s.2.1 s.2.2
def zgs (F : Nat → Nat → zG3 → zG3) (W : List zC3) (one mv : Nat) (s : zG3) (r : Nat) : zG3 := F (one + 1) (mv + zsm W s.2.1 one (nI r)) (s.1, va_up s.2.1 one (nI r), s.2.2)
def zgv (W : List zC3) (b : Bool) : Nat → Nat → Nat → zG3 → zG3
  | 0, _, _, s => s
  | f + 1, one, mv, s =>
    if nI mv < (if b = true then s.1 else 1000) then
      (if one = W.length then (if nI mv < s.1 then (nI mv, s.2.1, va_cpy s.2.1 s.2.2 0 0 8) else s)
       else (((List.range 3).foldl (zgs (zgv W b f) W one mv) s).1, va_up ((List.range 3).foldl (zgs (zgv W b f) W one mv) s).2.1 one (-1), ((List.range 3).foldl (zgs (zgv W b f) W one mv) s).2.2))
    else s
theorem zgs_s (F : Nat → Nat → zG3 → zG3) (W : List zC3) (one mv : Nat) (s : zG3) (r : Nat) : (List.range (r + 1)).foldl (zgs F W one mv) s = zgs F W one mv ((List.range r).foldl (zgs F W one mv) s) r := by
  rw [List.range_succ, List.foldl_append]; rfl
theorem zsm_le (W : List zC3) (tf : Nat → Int32) (one : Nat) (rd : Int32) (h : one ≤ 1000) : zsm W tf one rd ≤ 1000 := by
  unfold zsm
  split
  · exact Nat.le_trans (zct_le _ _) h
  · exact Nat.le_refl _
