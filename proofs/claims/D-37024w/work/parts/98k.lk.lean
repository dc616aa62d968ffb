/-! THE START: the surroundings that the Statement gives -/
set_option maxHeartbeats 4000000 in
theorem law_K {s : State} {b : Nat} (hts0 : ∀ w ∈ lw_tbl, w.before #[Value.ref b] s = true) (hgv : (Jvm.Cond.and given_1 narrow_1).before #[Value.ref b] s = true) : ∃ g : zG, zK g (fun q : Nat => s.heap.size ≤ q) s ∧ zE0 g s.heap := by
  have hs := flat_of_before _ hgv
  have hA : ∀ a : Nat, a < s.heap.size → ¬ (fun q : Nat => s.heap.size ≤ q) a := fun a h => Nat.not_le.mpr h
  obtain ⟨c0, i0, k0⟩ := u_known (C := RX1) (T := TX1) (N := 10) (n := 10) hts0 (fun w h => lw_all_tbl (in_X1 w h)) (hts0 _ (lw_all_tbl q67))
  obtain ⟨c1, i1, k1⟩ := u_known (C := RX2) (T := TX2) (N := 1) (n := 1) hts0 (fun w h => lw_all_tbl (in_X2 w h)) (hts0 _ (lw_all_tbl q75))
  obtain ⟨c2, i2, k2⟩ := u_known (C := RX3) (T := TX3) (N := 33) (n := 33) hts0 (fun w h => lw_all_tbl (in_X3 w h)) (hts0 _ (lw_all_tbl q1016))
  obtain ⟨c3, i3, k3⟩ := u_known (C := RX4) (T := TX4) (N := 20) (n := 20) hts0 (fun w h => lw_all_tbl (in_X4 w h)) (hts0 _ (lw_all_tbl q357))
  obtain ⟨c4, i4, k4⟩ := u_known (C := RX5) (T := TX5) (N := 2) (n := 2) hts0 (fun w h => lw_all_tbl (in_X5 w h)) (hts0 _ (lw_all_tbl q363))
  obtain ⟨c5, i5, k5⟩ := u_known (C := RX6) (T := TX6) (N := 3) (n := 3) hts0 (fun w h => lw_all_tbl (in_X6 w h)) (hts0 _ (lw_all_tbl q572))
  obtain ⟨c6, i6, k6⟩ := u_known (C := RX7) (T := TX7) (N := 2) (n := 2) hts0 (fun w h => lw_all_tbl (in_X7 w h)) (hts0 _ (lw_all_tbl q655))
  obtain ⟨c7, i7, k7⟩ := u_known (C := RX8) (T := TX8) (N := 3) (n := 3) hts0 (fun w h => lw_all_tbl (in_X8 w h)) (hts0 _ (lw_all_tbl q867))
  obtain ⟨c8, i8, k8⟩ := u_known (C := RX9) (T := TX9) (N := 2) (n := 2) hts0 (fun w h => lw_all_tbl (in_X9 w h)) (hts0 _ (lw_all_tbl q893))
  obtain ⟨c9, i9, k9⟩ := u_known (C := RJ2) (T := TJ2) (N := 3) (n := 3) hts0 (fun w h => lw_all_tbl (in_J2 w h)) (hts0 _ (lw_all_tbl q81))
  obtain ⟨c10, i10, k10⟩ := u_known (C := RJ16) (T := TJ16) (N := 4) (n := 4) hts0 (fun w h => lw_all_tbl (in_J16 w h)) (hts0 _ (lw_all_tbl q750))
  obtain ⟨D, hKc⟩ : ∃ D : va_G, ∀ (k : Nat) (q : vw_C), zCl[k]? = some q → u_Kn s q.1 q.2.1 q.2.2 (D.1 k) (D.2 k) := by
    refine ⟨(fun k => if k = 0 then c0 else if k = 1 then c1 else if k = 2 then c2 else if k = 3 then c3 else if k = 4 then c4 else if k = 5 then c5 else if k = 6 then c6 else if k = 7 then c7 else if k = 8 then c8 else if k = 9 then c9 else c10, fun k => if k = 0 then i0 else if k = 1 then i1 else if k = 2 then i2 else if k = 3 then i3 else if k = 4 then i4 else if k = 5 then i5 else if k = 6 then i6 else if k = 7 then i7 else if k = 8 then i8 else if k = 9 then i9 else i10), ?_⟩
    intro k q hq
    match k, hq with
    | 0, hq => cases hq; exact k0
    | 1, hq => cases hq; exact k1
    | 2, hq => cases hq; exact k2
    | 3, hq => cases hq; exact k3
    | 4, hq => cases hq; exact k4
    | 5, hq => cases hq; exact k5
    | 6, hq => cases hq; exact k6
    | 7, hq => cases hq; exact k7
    | 8, hq => cases hq; exact k8
    | 9, hq => cases hq; exact k9
    | 10, hq => cases hq; exact k10
    | k + 11, hq => exact absurd (show (none : Option vw_C) = some q from hq) (by simp)
  obtain ⟨a1, y1, z1, f1, g1, h1⟩ := Cond.arrayClass_spec (hts0 _ (lw_all_tbl q208))
  obtain ⟨a2, y2, z2, f2, g2, h2⟩ := Cond.arrayClass_spec (hts0 _ (lw_all_tbl q1121))
  obtain ⟨a3, y3, z3, f3, g3, h3⟩ := Cond.arrayClass_spec (hts0 _ (lw_all_tbl q1350))
  obtain ⟨z4, a4, y4, f4, -, g4, h4, f5⟩ := Cond.arrayOver_spec (hts0 _ q167)
  have r1 : ArrOfT s a1 .int ∧ va_RA s a1 .int := ⟨fun N z => ⟨fun k h => by cases h, y1, g1, z1, h1⟩, f1⟩
  have r2 : ArrOfT s a2 .boolean ∧ va_RA s a2 .boolean := ⟨fun N z => ⟨fun k h => by cases h, y2, g2, z2, h2⟩, f2⟩
  have r3 : ArrOfT s a3 .long ∧ va_RA s a3 .long := ⟨fun N z => ⟨fun k h => by cases h, y3, g3, z3, h3⟩, f3⟩
  have r4 : ArrOfT s a4 (.object "java/lang/Object") ∧ va_RA s a4 (.object "java/lang/Object") := ⟨fun N z => ⟨fun k h => by cases h, y4, g4, z4, h4⟩, y4, z4, g4, h4, f4, f5⟩
  have w1 : (Cond.exactly (Term.static "java/util/ArrayList" "DEFAULTCAPACITY_EMPTY_ELEMENTDATA" "[Ljava/lang/Object;") "[Ljava/lang/Object;").before #[Value.ref b] s = true := hs _ (by decide +kernel)
  have w2 : (Cond.arrayOf (Term.static "java/util/ArrayList" "DEFAULTCAPACITY_EMPTY_ELEMENTDATA" "[Ljava/lang/Object;") (.object "java/lang/Object")).before #[Value.ref b] s = true := hs _ (by decide +kernel)
  have w3 : (Cond.eq (.length (Term.static "java/util/ArrayList" "DEFAULTCAPACITY_EMPTY_ELEMENTDATA" "[Ljava/lang/Object;")) (.int 0)).before #[Value.ref b] s = true := hs _ (by decide +kernel)
  have w4 : (Cond.isRef (.static "java/lang/Throwable" "UNASSIGNED_STACK" "[Ljava/lang/StackTraceElement;")).before #[Value.ref b] s = true := hs _ (by decide +kernel)
  have w5 : (Cond.isRef (.static "java/lang/Throwable" "SUPPRESSED_SENTINEL" "Ljava/util/List;")).before #[Value.ref b] s = true := hs _ (by decide +kernel)
  have w6 : (Cond.isRef (.mirror "[Ljava/lang/Object;")).before #[Value.ref b] s = true := hs _ (by decide +kernel)
  have w7 : (Cond.not (.castable "java/lang/IllegalArgumentException" "java/lang/IndexOutOfBoundsException")).before #[Value.ref b] s = true := hs _ (by decide +kernel)
  have w8 : (Cond.not (.castable "java/lang/IllegalStateException" "java/lang/IndexOutOfBoundsException")).before #[Value.ref b] s = true := hs _ (by decide +kernel)
  have w9 : (Cond.not (.castable "java/lang/IllegalStateException" "java/lang/IllegalArgumentException")).before #[Value.ref b] s = true := hs _ (by decide +kernel)
  obtain ⟨d0, cO, cell, kO, ev, hfO, hcell, hkO, hstO, hclO, -⟩ := Cond.exactly_spec w1
  have hao := Cond.arrayOf_spec w2 ev hcell
  obtain ⟨d1, cell1, ev1, hcell1, hsz⟩ := zlen0 w3
  have hd1 : d1 = d0 := by have z := ev1.symm.trans ev; cases z; rfl
  rw [hd1] at hcell1
  have hc1 : cell1 = cell := Option.some.inj (hcell1.symm.trans hcell)
  rw [hc1] at hsz
  have ha4 : cO = a4 := Option.some.inj (hfO.symm.trans f5)
  obtain ⟨mi, hmi⟩ := va_Mi.of w6
  refine ⟨(D, (a1, a2, a3, a4), d0, mi), ⟨⟨hKc, fun k q hq => ?_⟩, ?_, ⟨?_, ?_, ?_⟩, hmi, va_Dc.of (hts0 _ q1374)⟩, ⟨cell, hcell, hclO.trans ha4, hsz, hao.1.1⟩⟩
  · match k, hq with
    | 0, hq => cases hq; exact r1
    | 1, hq => cases hq; exact r2
    | 2, hq => cases hq; exact r3
    | 3, hq => cases hq; exact r4
    | k + 4, hq => exact absurd (show (none : Option (ClassId × FieldType)) = some q from hq) (by simp)
  · exact ⟨fun a i b n d h w => va_Nw.of rfl (hts0 _ w), fun a i x h w => va_Nw.of rfl (hts0 _ w), fun C T w => va_Nw.of rfl (hts0 _ w), fun x w => va_Nw.of rfl (hts0 _ w), va_AO.of (hts0 _ q167),
      va_Fw.of (x := ⟨"WheelWorks$Test", "is", "(Ljava/lang/Object;)Z"⟩) (hts0 _ q674) (hts0 _ q673) (hts0 _ q679) (hts0 _ q677) (hts0 _ q675),
      va_Fw.of (x := ⟨"WheelWorks$Test", "is", "(Ljava/lang/Object;)Z"⟩) (hts0 _ q674) (hts0 _ q673) (hts0 _ q691) (hts0 _ q689) (hts0 _ q687),
      va_Fw.of (x := ⟨"java/util/Iterator", "hasNext", "()Z"⟩) (hts0 _ q771) (hts0 _ q770) (hts0 _ q776) (hts0 _ q774) (hts0 _ q772),
      va_Fw.of (x := ⟨"java/util/Iterator", "next", "()Ljava/lang/Object;"⟩) (hts0 _ q781) (hts0 _ q780) (hts0 _ q785) (hts0 _ q783) (hts0 _ q772),
      va_Nc.of w7, va_Nc.of w8, va_Nc.of w9⟩
  · exact va_Zof (hts0 _ q93) (hts0 _ (lw_all_tbl q43)) ev hA
  · exact vx_Zqof (hts0 _ q295) (hts0 _ (lw_all_tbl q49)) w4 hA
  · exact vx_Zqof (hts0 _ q297) (hts0 _ (lw_all_tbl q49)) w5 hA
