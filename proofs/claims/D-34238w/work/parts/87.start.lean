/-! ===== THE FACTS AT THE START (printed by tools/mk87.py) ===== -/
abbrev fC : List Cond := flatC (Jvm.Cond.and given_1 narrow_1)
theorem dig_tens : (fC.drop 119).take 100 = (List.range 100).map (fun j => Cond.eq (.elem (.static "java/lang/Integer" "DigitTens" "[B") (.int (Int32.ofNat j))) (.int (nI (48 + j / 10)))) := by decide +kernel
theorem dig_ones : (fC.drop 16).take 100 = (List.range 100).map (fun j => Cond.eq (.elem (.static "java/lang/Integer" "DigitOnes" "[B") (.int (Int32.ofNat j))) (.int (nI (48 + j % 10)))) := by decide +kernel
theorem mem_slice {α : Type} {l : List α} {k n : Nat} {f : Nat → α} (h : (l.drop k).take n = (List.range n).map f) {j : Nat} (hj : j < n) : f j ∈ l := List.mem_of_mem_drop (List.mem_of_mem_take (h ▸ List.mem_map.mpr ⟨j, List.mem_range.mpr hj, rfl⟩))
def tmS (i : Nat) : Term := .string "AlertIndex" ([134, 143, 145].getD i 0)
theorem sel_priv {s : State} {args : Array Value} {y : MethodName} (hy : y.cls = "java/lang/AbstractStringBuilder") (ha : ∀ w ∈ lw_all, w.before args s = true) (hpriv : (Cond.privateMethod y).before args s = true) (hinst : (Cond.instanceMethod y).before args s = true) : (Cond.selects "java/lang/StringBuilder" y y).before #[] s = true := by
  obtain ⟨c, r, m, hc, -, hm, -, k, hk, hni⟩ := Cond.selects_spec (ha _ q341)
  obtain ⟨mk, methM, hnamed, hmethM, -, -⟩ := Cond.instanceMethod_spec hinst
  have hy2 : y.cls ≠ "java/lang/invoke/MethodHandle" ∧ y.cls ≠ "java/lang/invoke/VarHandle" := by rw [hy]; exact ⟨by decide +kernel, by decide +kernel⟩
  have hfound : s.methodFound? y.cls y.name y.desc = some mk := State.methodFound?_of_named hnamed hy2
  have hcls : mk.cls = m.cls := by
    have a1 := findClass_of_methodNamed hnamed
    have a2 := findClass_of_methodNamed hm
    rw [hy] at a1
    exact Option.some.inj (a1.symm.trans a2)
  have hsel : selectMethod {} s.vm c mk = .method mk := selectMethod_private hmethM (Cond.privateMethod_at hpriv mk methM hnamed hmethM)
  simp only [Cond.before, Cond.holds, Cond.value, hc, hfound, hnamed, hsel, hcls, hk]
  simp
  exact hni
theorem selD_of {s : State} {args : Array Value} {C : String} {x : MethodName} (hx : x.cls ≠ "java/lang/invoke/MethodHandle" ∧ x.cls ≠ "java/lang/invoke/VarHandle") (h : (Cond.landsInDefault C x x).before args s = true) : selD C x s := by
  obtain ⟨c, r, m, rm, h1, h2, h3, -, h5, -⟩ := Cond.landsInDefault_spec h
  have h6 := State.methodFound?_of_named h3 hx
  have e : r = m := Option.some.inj (h2.symm.trans h6)
  rw [e] at h5
  exact ⟨c, m, h1, h3, h5⟩
theorem arr_prim {s : State} {args : Array Value} {ty : FieldType} (hn : ∀ C, ty ≠ .object C) (h : (Cond.arrayClass ty).before args s = true) : ∃ c, ArrOfT s c ty ∧ va_RA s c ty := by
  obtain ⟨c, k, comp, h1, h2, h3⟩ := Cond.arrayClass_spec h
  refine ⟨c, fun n z => ⟨(fun k h => (by cases h)), k, h2, comp, h3⟩, ?_⟩
  cases ty <;> first | exact h1 | exact absurd rfl (hn _)
theorem arr_ref {s : State} {args : Array Value} {C : String} (h : (Cond.arrayOver (.object C)).before args s = true) : ∃ c, ArrOfT s c (.object C) ∧ va_RA s c (.object C) := by
  obtain ⟨comp, c, k, h1, -, h2, h3, h4⟩ := Cond.arrayOver_spec h
  exact ⟨c, fun N z => ⟨(fun k h => (by cases h)), k, h2, comp, h3⟩, k, comp, h2, h3, h1, h4⟩
theorem kk_start {s : State} {b : Nat} (l : Launch) (hflags : l.flags = flags0) (ha : ∀ w ∈ lw_all, w.before #[Value.ref b] s = true) (hts : ∀ w ∈ lw_tbl, w.before #[Value.ref b] s = true) (hgv : (Jvm.Cond.and given_1 narrow_1).before #[Value.ref b] s = true) : ∃ g : Gx, gL g = l ∧ gH g = s.heap ∧ KK g s := by
  have hs := flat_of_before _ hgv
  have hm : ∀ (k : Nat) (c : Cond), fC[k]? = some c → c.before #[Value.ref b] s = true := fun k c h => hs c (List.mem_of_getElem? h)
  have hA : ∀ a : Nat, a < s.heap.size → ¬ (fun q : Nat => s.heap.size ≤ q) a := fun a h => Nat.not_le.mpr h
  obtain ⟨c0, i0, k0⟩ := u_known (C := RX1) (T := TX1) (N := 5) (n := 5) ha in_X1 (ha _ q56)
  obtain ⟨c1, i1, k1⟩ := u_known (C := RX2) (T := TX2) (N := 15) (n := 15) ha in_X2 (ha _ q1448)
  obtain ⟨c2, i2, k2⟩ := u_known (C := RX3) (T := TX3) (N := 6) (n := 6) ha in_X3 (ha _ q1013)
  obtain ⟨c3, i3, k3⟩ := u_known (C := RX4) (T := TX4) (N := 3) (n := 3) ha in_X4 (ha _ q1126)
  obtain ⟨c4, i4, k4⟩ := u_known (C := RX6) (T := TX6) (N := 3) (n := 3) ha in_X6 (ha _ q1170)
  obtain ⟨c5, i5, k5⟩ := u_known (C := RX7) (T := TX7) (N := 1) (n := 1) ha in_X7 (ha _ q1189)
  obtain ⟨c6, i6, k6⟩ := u_known (C := RJ2) (T := TJ2) (N := 3) (n := 3) ha in_J2 (ha _ q64)
  obtain ⟨c7, i7, k7⟩ := u_known (C := RJ4) (T := TJ4) (N := 8) (n := 8) ha in_J4 (ha _ q90)
  obtain ⟨c8, i8, k8⟩ := u_known (C := RJ26) (T := TJ26) (N := 4) (n := 4) ha in_J26 (ha _ q1259)
  obtain ⟨c9, i9, k9⟩ := u_known (C := RJ28) (T := TJ28) (N := 11) (n := 11) ha in_J28 (ha _ q1319)
  obtain ⟨c10, i10, k10⟩ := u_known (C := RJ20) (T := TJ20) (N := 4) (n := 4) ha in_J20 (ha _ q260)
  obtain ⟨c11, i11, k11⟩ := u_known (C := RJ14) (T := TJ14) (N := 4) (n := 4) ha in_J14 (ha _ q444)
  obtain ⟨a0, z0⟩ := arr_prim (ty := .int) (fun C h => by cases h) (ha _ q121)
  obtain ⟨a1, z1⟩ := arr_prim (ty := .boolean) (fun C h => by cases h) (ha _ q1499)
  obtain ⟨a2, z2⟩ := arr_prim (ty := .byte) (fun C h => by cases h) (ha _ q290)
  obtain ⟨a3, z3⟩ := arr_prim (ty := .long) (fun C h => by cases h) (ha _ q1625)
  obtain ⟨a4, z4⟩ := arr_ref (C := "java/lang/Object") (by first | exact ha _ q1074 | exact hts _ q1074)
  obtain ⟨a5, z5⟩ := arr_ref (C := "java/util/HashMap$Node") (by first | exact ha _ q1245 | exact hts _ q1245)
  obtain ⟨t0, e0, T0⟩ := va_Tof (N := 0) (f := fun _ => .null) (A := fun q : Nat => s.heap.size ≤ q) (tm := .static "java/util/ArrayList" "DEFAULTCAPACITY_EMPTY_ELEMENTDATA" "[Ljava/lang/Object;") (ty := .object "java/lang/Object") (by decide) (hm 5 _ (by decide +kernel)) (va_eqt (hm 7 _ (by decide +kernel))) (fun j hj => absurd hj (Nat.not_lt_zero _)) hA
  obtain ⟨t1, e1, T1⟩ := va_Tof (N := 100) (f := fun j => .int (nI (48 + j / 10))) (A := fun q : Nat => s.heap.size ≤ q) (tm := .static "java/lang/Integer" "DigitTens" "[B") (ty := .byte) (by decide) (hm 117 _ (by decide +kernel)) (va_eqt (hm 118 _ (by decide +kernel))) (fun j hj => va_eqt (hs _ (mem_slice dig_tens hj))) hA
  obtain ⟨t2, e2, T2⟩ := va_Tof (N := 100) (f := fun j => .int (nI (48 + j % 10))) (A := fun q : Nat => s.heap.size ≤ q) (tm := .static "java/lang/Integer" "DigitOnes" "[B") (ty := .byte) (by decide) (hm 14 _ (by decide +kernel)) (va_eqt (hm 15 _ (by decide +kernel))) (fun j hj => va_eqt (hs _ (mem_slice dig_ones hj))) hA
  obtain ⟨mi, M9⟩ := va_Mi.of (C := "[Ljava/lang/Object;") (hm 412 _ (by decide +kernel))
  obtain ⟨adK, adV, vS, eS⟩ := vk_Sof (N := 3) (tm := tmS) (len := [1, 1, 1]) (byt := [[110], [58], [43]]) (A := fun q : Nat => s.heap.size ≤ q) (show ∀ i : Nat, i < 3 → [1, 1, 1].getD i 0 < 2 ^ 31 by decide)
    (fun i hi => by
      rcases (show i = 0 ∨ i = 1 ∨ i = 2 by omega) with rfl | rfl | rfl
      · exact hm 468 _ (by decide +kernel)
      · exact hm 475 _ (by decide +kernel)
      · exact hm 483 _ (by decide +kernel))
    (fun i hi => by
      rcases (show i = 0 ∨ i = 1 ∨ i = 2 by omega) with rfl | rfl | rfl
      · exact hm 469 _ (by decide +kernel)
      · exact hm 476 _ (by decide +kernel)
      · exact hm 484 _ (by decide +kernel))
    (fun i hi => by
      rcases (show i = 0 ∨ i = 1 ∨ i = 2 by omega) with rfl | rfl | rfl
      · exact hm 470 _ (by decide +kernel)
      · exact hm 477 _ (by decide +kernel)
      · exact hm 485 _ (by decide +kernel))
    (fun i hi => by
      rcases (show i = 0 ∨ i = 1 ∨ i = 2 by omega) with rfl | rfl | rfl
      · exact hm 471 _ (by decide +kernel)
      · exact hm 478 _ (by decide +kernel)
      · exact hm 486 _ (by decide +kernel))
    (fun i hi j hj => by
      rcases (show i = 0 ∨ i = 1 ∨ i = 2 by omega) with rfl | rfl | rfl
      · obtain rfl : j = 0 := Nat.lt_one_iff.mp hj
        exact hm 472 _ (by decide +kernel)
      · obtain rfl : j = 0 := Nat.lt_one_iff.mp hj
        exact hm 479 _ (by decide +kernel)
      · obtain rfl : j = 0 := Nat.lt_one_iff.mp hj
        exact hm 487 _ (by decide +kernel))
    (fun i j hi hj hne => by
      rcases (show i = 0 ∨ i = 1 ∨ i = 2 by omega) with rfl | rfl | rfl <;> rcases (show j = 0 ∨ j = 1 ∨ j = 2 by omega) with rfl | rfl | rfl
      · exact absurd rfl hne
      · exact Or.inl (hm 482 _ (by decide +kernel))
      · exact Or.inl (hm 490 _ (by decide +kernel))
      · exact Or.inr (hm 482 _ (by decide +kernel))
      · exact absurd rfl hne
      · exact Or.inl (hm 491 _ (by decide +kernel))
      · exact Or.inr (hm 490 _ (by decide +kernel))
      · exact Or.inr (hm 491 _ (by decide +kernel))
      · exact absurd rfl hne) hA
  let gs : Nat → Nat := fun k => if k = 0 then t0 else if k = 1 then t1 else if k = 2 then t2 else if k < 6 then adK (k - 3) else if k < 9 then adV (k - 6) else mi
  let dC : Nat → ClassId := fun k => [c0, c1, c2, c3, c4, c5, c6, c7, c8, c9, c10, c11].getD k c0
  let dI : Nat → Nat → Nat := fun k => [i0, i1, i2, i3, i4, i5, i6, i7, i8, i9, i10, i11].getD k i0
  let aC : Nat → ClassId := fun k => [a0, a1, a2, a3, a4, a5].getD k a0
  have hgK : ∀ i, i < 3 → gs (3 + i) = adK i := fun i hi => by
    have : i = 0 ∨ i = 1 ∨ i = 2 := by omega
    rcases this with rfl | rfl | rfl <;> rfl
  have hgV : ∀ i, i < 3 → gs (6 + i) = adV i := fun i hi => by
    have : i = 0 ∨ i = 1 ∨ i = 2 := by omega
    rcases this with rfl | rfl | rfl <;> rfl
  refine ⟨(l, (dC, dI), aC, s.heap, gs), rfl, rfl, ⟨?_, ?_, ?_⟩, ⟨?_, ?_⟩, ?_, ?_, ?_, ?_, ?_, ?_, ?_, ?_⟩
  · show l.stackTraces = false
    unfold Launch.stackTraces
    rw [hflags]
    decide
  · exact selD_of ⟨by decide +kernel, by decide +kernel⟩ (hm 539 _ (by decide +kernel))
  · exact selD_of ⟨by decide +kernel, by decide +kernel⟩ (hm 540 _ (by decide +kernel))
  · intro k q hq
    match k, hq with
    | 0, hq => cases hq; exact k0
    | 1, hq => cases hq; exact k1
    | 2, hq => cases hq; exact k2
    | 3, hq => cases hq; exact k3
    | 4, hq => cases hq; exact k4
    | 5, hq => cases hq; exact k5
    | 6, hq => cases hq; exact k6
    | 7, hq => cases hq; exact k7
    | 8, hq => cases hq; exact k8
    | 9, hq => cases hq; exact k9
    | 10, hq => cases hq; exact k10
    | 11, hq => cases hq; exact k11
    | k + 12, hq => simp [clA] at hq
  · intro k q hq
    match k, hq with
    | 0, hq => cases hq; exact z0
    | 1, hq => cases hq; exact z1
    | 2, hq => cases hq; exact z2
    | 3, hq => cases hq; exact z3
    | 4, hq => cases hq; exact z4
    | 5, hq => cases hq; exact z5
    | k + 6, hq => simp [tyA] at hq
  · intro w hw
    simp only [lw_ex, List.mem_cons, List.not_mem_nil, or_false] at hw
    rcases hw with rfl | rfl | rfl
    · exact sel_priv rfl ha (by first | exact ha _ q304 | exact hts _ q304) (ha _ q305)
    · exact sel_priv rfl ha (by first | exact ha _ q379 | exact hts _ q379) (ha _ q380)
    · exact sel_priv rfl ha (by first | exact ha _ q383 | exact hts _ q383) (ha _ q384)
  · exact fun C T h => va_Nw.of rfl (hts _ h)
  · exact fun own i y hh h => va_Nw.of rfl (hts _ h)
  · exact fun C h => va_AO.of (hts _ h)
  · exact fun C x y h1 h2 h3 h4 h5 _ => va_Fw.of (hts _ h1) (hts _ h2) (hts _ h3) (hts _ h4) (hts _ h5)
  · intro q hq
    simp only [ncL, List.mem_cons, List.not_mem_nil, or_false] at hq
    rcases hq with rfl | rfl | rfl | rfl | rfl
    · exact va_Nc.of (hm 265 _ (by decide +kernel))
    · exact va_Nc.of (hm 342 _ (by decide +kernel))
    · exact va_Nc.of (hm 303 _ (by decide +kernel))
    · exact va_Nc.of (hm 306 _ (by decide +kernel))
    · exact va_Nc.of (hm 319 _ (by decide +kernel))
  · exact fun y h => va_Nw.of rfl (hts _ h)
  · refine ⟨?_, ?_, ?_, ?_, ?_, ?_, ?_, T0, T1, T2, M9, ⟨fun i hi => ?_, fun i j hi hj e => ?_⟩, ?_, ?_, ?_⟩
    · exact vx_Zqof (by first | exact ha _ q502 | exact hts _ q502) (ha _ q23) (hm 219 _ (by decide +kernel)) hA
    · exact vx_Zqof (by first | exact ha _ q504 | exact hts _ q504) (ha _ q23) (hm 220 _ (by decide +kernel)) hA
    · exact va_Zof (by first | exact ha _ q269 | exact hts _ q269) (ha _ q34) (va_eqt (hm 8 _ (by decide +kernel))) hA
    · exact va_Zof (by first | exact ha _ q1306 | exact hts _ q1306) (ha _ q54) (va_eqt (hm 230 _ (by decide +kernel))) hA
    · exact va_Zof (by first | exact ha _ q76 | exact hts _ q76) (ha _ q19) e0 hA
    · exact va_Zof (by first | exact ha _ q428 | exact hts _ q428) (ha _ q48) e1 hA
    · exact va_Zof (by first | exact ha _ q426 | exact hts _ q426) (ha _ q48) e2 hA
    · show va_O _ (gs (3 + i)) _ _ _ ∧ va_OF _ _ _ _ (gs (3 + i)) _ _ _ ∧ va_OF _ _ _ (.ref (gs (6 + i))) (gs (3 + i)) _ _ _ ∧ va_T _ (gs (6 + i)) _ _ _ _ _
      rw [hgK i hi, hgV i hi]
      exact vS.1 i hi
    · exact vS.2 i j hi hj (by rw [← hgK i hi, ← hgK j hj]; exact e)
    · exact vk_R.of (by first | exact ha _ q291 | exact hts _ q291) (eS 0 (by decide))
    · exact vk_R.of (by first | exact ha _ q437 | exact hts _ q437) (eS 1 (by decide))
    · exact vk_R.of (by first | exact ha _ q438 | exact hts _ q438) (eS 2 (by decide))
