/-! ===== THE REFERENCE: more of it ===== -/
section MODEL3
variable {g : Gx} {w : Wd} {m : Nat} {ad : Nat → Nat} {S : St} {th : Int32} {x : Cx} {lv : Nat}
theorem quietNow_ct (hM : MR g w m ad S th) {q : Nat} (hq : q < 20) : Ct g yX2_quietNow cX2_quietNow 2 (some .boolean) 1 0 0 [.ref m, .int (nI q)] w (PW (rI (bI (decide (S 1 0 < S 7 q)))) w) noX := by
  refine Ct.of RX2 "quietNow" ⟨rfl, rfl⟩ (by decide +kernel) (by simp [Value.category]) (Nat.le_of_ble_eq_true rfl) (fun x ok hQ hN => ?_)
  show Z g x 2 0 [some (.ref m), some (.int (nI q))] [] w 0 0
  have hm := hM.o
  have h7 := hM.a7
  refine Z.aload_n ok dX2_quietNow_0 rfl (by first | exact isRf.r _ | exact isRf.n | exact isRf.v _ | assumption) ?_
  refine Z.get (ci := 1) (C := RX2) (T := TX2) (N := 15) ok (by first | assumption | exact ws_s | (rw [ws_n (by assumption)]; assumption)) rfl in_X2 1 (by decide) q1454 (Or.inl rfl) (by rfl) dX2_quietNow_1 ?_
  refine Z.aload_n ok dX2_quietNow_4 rfl (by first | exact isRf.r _ | exact isRf.n | exact isRf.v _ | assumption) ?_
  refine Z.get (ci := 1) (C := RX2) (T := TX2) (N := 15) ok (by first | assumption | exact ws_s | (rw [ws_n (by assumption)]; assumption)) rfl in_X2 7 (by decide) q1460 (Or.inl rfl) (by rfl) dX2_quietNow_5 ?_
  refine Z.iload_n ok dX2_quietNow_8 rfl ?_
  refine Z.ialdN ok h7 hq (by decide) dX2_quietNow_9 ?_
  refine Z.icmp_ge (tgt := 17) ok dX2_quietNow_10 (by decide) (fun hc => ?_) (fun hc => ?_)
  · refine Z.iconst_0 ok dX2_quietNow_17 ?_
    refine Z.iret ok hQ rfl dX2_quietNow_18 ?_
    exact ⟨by rw [decide_eq_false (lt_dec.mpr hc)]; rfl, rfl⟩
  · refine Z.iconst_1 ok dX2_quietNow_13 ?_
    refine Z.goto (tgt := 18) ok dX2_quietNow_14 (by decide) ?_
    refine Z.iret ok hQ rfl dX2_quietNow_18 ?_
    exact ⟨by rw [decide_eq_true (le_dec.mp hc)]; rfl, rfl⟩
theorem raises_ct (hM : MR g w m ad S th) {q : Nat} (hq : q < 20) : Ct g yX2_raises cX2_raises 2 none 1 0 0 [.ref m, .int (nI q)] w (PM g w m ad none (raisesS S q) th) noX := by
  refine Ct.of RX2 "raises" ⟨rfl, rfl⟩ (by decide +kernel) (by simp [Value.category]) (Nat.le_of_ble_eq_true rfl) (fun x ok hQ hN => ?_)
  show Z g x 2 0 [some (.ref m), some (.int (nI q))] [] w 0 0
  have hm := hM.o
  have h8 := hM.a8
  refine Z.aload_n ok dX2_raises_0 rfl (by first | exact isRf.r _ | exact isRf.n | exact isRf.v _ | assumption) ?_
  refine Z.get (ci := 1) (C := RX2) (T := TX2) (N := 15) ok (by first | assumption | exact ws_s | (rw [ws_n (by assumption)]; assumption)) rfl in_X2 8 (by decide) q1461 (Or.inl rfl) (by rfl) dX2_raises_1 ?_
  refine Z.iload_n ok dX2_raises_4 rfl ?_
  refine Z.dup2 ok dX2_raises_5 (by first | rfl | exact cat_rf _) (by first | rfl | exact cat_rf _) ?_
  refine Z.ialdN ok h8 hq (by decide) dX2_raises_6 ?_
  refine Z.iconst_1 ok dX2_raises_7 ?_
  refine Z.iadd ok dX2_raises_8 ?_
  refine Z.iastN ok h8 (by decide) hq (by decide) dX2_raises_9 ?_
  obtain ⟨hM1, hF1⟩ := hM.st 8 q (S 8 q + 1) (by decide) (by decide)
  generalize hw1 : wset w (ad 8) (eI g 20 (upd (S 8) q (S 8 q + 1))) 28 = w1
  have hM1 : MR g w1 m ad (up2 S 8 q (S 8 q + 1)) th := by rw [← hw1]; exact hM1
  have hF1 : FrM w w1 := by rw [← hw1]; exact hF1
  have hm := hM1.o
  have h6 := hM1.a6
  have h7 := hM1.a7
  refine Z.aload_n ok dX2_raises_10 rfl (by first | exact isRf.r _ | exact isRf.n | exact isRf.v _ | assumption) ?_
  refine Z.get (ci := 1) (C := RX2) (T := TX2) (N := 15) ok (by first | assumption | exact ws_s | (rw [ws_n (by assumption)]; assumption)) rfl in_X2 7 (by decide) q1460 (Or.inl rfl) (by rfl) dX2_raises_11 ?_
  refine Z.iload_n ok dX2_raises_14 rfl ?_
  refine Z.aload_n ok dX2_raises_15 rfl (by first | exact isRf.r _ | exact isRf.n | exact isRf.v _ | assumption) ?_
  refine Z.get (ci := 1) (C := RX2) (T := TX2) (N := 15) ok (by first | assumption | exact ws_s | (rw [ws_n (by assumption)]; assumption)) rfl in_X2 1 (by decide) q1454 (Or.inl rfl) (by rfl) dX2_raises_16 ?_
  refine Z.aload_n ok dX2_raises_19 rfl (by first | exact isRf.r _ | exact isRf.n | exact isRf.v _ | assumption) ?_
  refine Z.get (ci := 1) (C := RX2) (T := TX2) (N := 15) ok (by first | assumption | exact ws_s | (rw [ws_n (by assumption)]; assumption)) rfl in_X2 6 (by decide) q1459 (Or.inl rfl) (by rfl) dX2_raises_20 ?_
  refine Z.iload_n ok dX2_raises_23 rfl ?_
  refine Z.ialdN ok h6 hq (by decide) dX2_raises_24 ?_
  refine Z.iadd ok dX2_raises_25 ?_
  refine Z.iastN ok h7 (by decide) hq (by decide) dX2_raises_26 ?_
  refine Z.vret ok hQ rfl dX2_raises_27 ?_
  obtain ⟨hM2, hF2⟩ := hM1.st 7 q (S 1 0 + S 6 q) (by decide) (by decide)
  exact ⟨rfl, hM2, hF1.tr hF2⟩
/-- products' numbers of plain tests -/
theorem plainN_le (S : St) (i : Nat) : ∀ t, plainN S i t ≤ t
  | 0 => Nat.le_refl 0
  | t + 1 => by
    have := plainN_le S i t
    unfold plainN
    split <;> omega
theorem size_in (ok : OK g x RX2 cX2_size 6 2 (some .int)) (hM : MR g w m ad S th) (hI : InvA S) {q i : Nat} (v2 : Int32) (hi : i < 60) (kk : Z g x 6 82 [some (.ref m), some (.int (nI q)), some (.int v2), some (.int (nI i)), some (.int (nI (plainN S i (nt S i)))), some (.int (nI (4 * i + nt S i)))] [] w 0 0) : ∀ d t, t + d = nt S i → Z g x 6 41 [some (.ref m), some (.int (nI q)), some (.int v2), some (.int (nI i)), some (.int (nI (plainN S i t))), some (.int (nI (4 * i + t)))] [] w 0 0 := by
  have hm := hM.o
  have h10 := hM.a10
  have h14 := hM.a14
  obtain ⟨e10, l10⟩ := hI.2.2.1 i hi
  intro d
  induction d with
  | zero =>
    intro t ht
    refine Z.iload ok dX2_size_41 rfl ?_
    refine Z.iconst_4 ok dX2_size_43 ?_
    refine Z.iload_n ok dX2_size_44 rfl ?_
    refine Z.imul ok dX2_size_45 ?_
    refine Z.aload_n ok dX2_size_46 rfl (by first | exact isRf.r _ | exact isRf.n | exact isRf.v _ | assumption) ?_
    refine Z.get (ci := 1) (C := RX2) (T := TX2) (N := 15) ok (by first | assumption | exact ws_s | (rw [ws_n (by assumption)]; assumption)) rfl in_X2 10 (by decide) q1463 (Or.inl rfl) (by rfl) dX2_size_47 ?_
    refine Z.iload_n ok dX2_size_50 rfl ?_
    refine Z.ialdN ok h10 hi (by decide) dX2_size_51 ?_
    rw [e10]
    refine Z.iadd ok dX2_size_52 ?_
    simp only [m3, m4, nI_add, nI_1, i1, List.set_cons_zero, List.set_cons_succ]
    refine Z.icmp_ge (tgt := 82) ok dX2_size_53 (by decide) (fun _ => ?_) (fun hc => absurd (nI_le (by omega) (by omega)) hc)
    rw [show t = nt S i by omega]
    exact kk
  | succ d ih =>
    intro t ht
    refine Z.iload ok dX2_size_41 rfl ?_
    refine Z.iconst_4 ok dX2_size_43 ?_
    refine Z.iload_n ok dX2_size_44 rfl ?_
    refine Z.imul ok dX2_size_45 ?_
    refine Z.aload_n ok dX2_size_46 rfl (by first | exact isRf.r _ | exact isRf.n | exact isRf.v _ | assumption) ?_
    refine Z.get (ci := 1) (C := RX2) (T := TX2) (N := 15) ok (by first | assumption | exact ws_s | (rw [ws_n (by assumption)]; assumption)) rfl in_X2 10 (by decide) q1463 (Or.inl rfl) (by rfl) dX2_size_47 ?_
    refine Z.iload_n ok dX2_size_50 rfl ?_
    refine Z.ialdN ok h10 hi (by decide) dX2_size_51 ?_
    rw [e10]
    refine Z.iadd ok dX2_size_52 ?_
    simp only [m3, m4, nI_add, nI_1, i1, List.set_cons_zero, List.set_cons_succ]
    refine Z.icmp_ge (tgt := 82) ok dX2_size_53 (by decide) (fun hc => absurd hc (nI_ge (by omega) (by omega))) (fun _ => ?_)
    have key : Z g x 6 73 [some (.ref m), some (.int (nI q)), some (.int v2), some (.int (nI i)), none, some (.int (nI (4 * i + t)))] [.int (nI (if S 14 (4 * i + t) = 0 then 1 else 0)), .int (nI (plainN S i t))] w 0 0 := by
      refine Z.iadd ok dX2_size_73 ?_
      refine Z.istore ok dX2_size_74 (by decide) ?_
      refine Z.iinc ok dX2_size_76 rfl rfl ?_
      refine Z.goto (tgt := 41) ok dX2_size_79 (by decide) ?_
      simp only [m3, m4, nI_add, nI_1, i1, List.set_cons_zero, List.set_cons_succ]
      exact ih (t + 1) (by omega)
    refine Z.iload ok dX2_size_56 rfl ?_
    refine Z.aload_n ok dX2_size_58 rfl (by first | exact isRf.r _ | exact isRf.n | exact isRf.v _ | assumption) ?_
    refine Z.get (ci := 1) (C := RX2) (T := TX2) (N := 15) ok (by first | assumption | exact ws_s | (rw [ws_n (by assumption)]; assumption)) rfl in_X2 14 (by decide) q1467 (Or.inl rfl) (by rfl) dX2_size_59 ?_
    refine Z.iload ok dX2_size_62 rfl ?_
    refine Z.zaldN ok h14 (by omega) (by decide) dX2_size_64 ?_
    refine Z.if_eq (tgt := 72) ok dX2_size_65 (by decide) (fun hc => ?_) (fun hc => ?_)
    · rw [if_pos hc] at key
      refine Z.iconst_1 ok dX2_size_72 ?_
      exact Z.fg (by simp [fgt]) key
    · rw [if_neg hc] at key
      refine Z.iconst_0 ok dX2_size_68 ?_
      refine Z.goto (tgt := 73) ok dX2_size_69 (by decide) ?_
      exact Z.fg (by simp [fgt]) key
theorem leastN_le (S : St) (q : Nat) : ∀ p, leastN S q p ≤ 4
  | 0 => by unfold leastN; split <;> omega
  | p + 1 => by
    have := leastN_le S q p
    unfold leastN
    split <;> omega
theorem size_out (ok : OK g x RX2 cX2_size 6 2 (some .int)) (hM : MR g w m ad S th) (hI : InvA S) {q : Nat} (hq : q < 20) (kk : Z g x 6 101 [some (.ref m), some (.int (nI q)), some (.int (nI (sizeN S q))), some (.int (nI (3 * q + np S q))), none, none] [] w 0 0) : ∀ d p, p + d = np S q → Z g x 6 19 [some (.ref m), some (.int (nI q)), some (.int (nI (leastN S q p))), some (.int (nI (3 * q + p))), none, none] [] w 0 0 := by
  have hm := hM.o
  have h5 := hM.a5
  obtain ⟨e5, l5⟩ := hI.2.1 q hq
  intro d
  induction d with
  | zero =>
    intro p hp
    refine Z.iload_n ok dX2_size_19 rfl ?_
    refine Z.iconst_3 ok dX2_size_20 ?_
    refine Z.iload_n ok dX2_size_21 rfl ?_
    refine Z.imul ok dX2_size_22 ?_
    refine Z.aload_n ok dX2_size_23 rfl (by first | exact isRf.r _ | exact isRf.n | exact isRf.v _ | assumption) ?_
    refine Z.get (ci := 1) (C := RX2) (T := TX2) (N := 15) ok (by first | assumption | exact ws_s | (rw [ws_n (by assumption)]; assumption)) rfl in_X2 5 (by decide) q1458 (Or.inl rfl) (by rfl) dX2_size_24 ?_
    refine Z.iload_n ok dX2_size_27 rfl ?_
    refine Z.ialdN ok h5 hq (by decide) dX2_size_28 ?_
    rw [e5]
    refine Z.iadd ok dX2_size_29 ?_
    simp only [m3, m4, nI_add, nI_1, i1, List.set_cons_zero, List.set_cons_succ]
    refine Z.icmp_ge (tgt := 101) ok dX2_size_30 (by decide) (fun _ => ?_) (fun hc => absurd (nI_le (by omega) (by omega)) hc)
    rw [show p = np S q by omega]
    exact kk
  | succ d ih =>
    intro p hp
    refine Z.iload_n ok dX2_size_19 rfl ?_
    refine Z.iconst_3 ok dX2_size_20 ?_
    refine Z.iload_n ok dX2_size_21 rfl ?_
    refine Z.imul ok dX2_size_22 ?_
    refine Z.aload_n ok dX2_size_23 rfl (by first | exact isRf.r _ | exact isRf.n | exact isRf.v _ | assumption) ?_
    refine Z.get (ci := 1) (C := RX2) (T := TX2) (N := 15) ok (by first | assumption | exact ws_s | (rw [ws_n (by assumption)]; assumption)) rfl in_X2 5 (by decide) q1458 (Or.inl rfl) (by rfl) dX2_size_24 ?_
    refine Z.iload_n ok dX2_size_27 rfl ?_
    refine Z.ialdN ok h5 hq (by decide) dX2_size_28 ?_
    rw [e5]
    refine Z.iadd ok dX2_size_29 ?_
    simp only [m3, m4, nI_add, nI_1, i1, List.set_cons_zero, List.set_cons_succ]
    refine Z.icmp_ge (tgt := 101) ok dX2_size_30 (by decide) (fun hc => absurd hc (nI_ge (by omega) (by omega))) (fun _ => ?_)
    refine Z.iconst_0 ok dX2_size_33 ?_
    refine Z.istore ok dX2_size_34 (by decide) ?_
    refine Z.iconst_4 ok dX2_size_36 ?_
    refine Z.iload_n ok dX2_size_37 rfl ?_
    refine Z.imul ok dX2_size_38 ?_
    refine Z.istore ok dX2_size_39 (by decide) ?_
    simp only [m3, m4, nI_add, nI_1, i1, List.set_cons_zero, List.set_cons_succ]
    refine size_in ok hM hI _ (by omega) ?_ (nt S (3 * q + p)) 0 (by omega)
    have hi : 3 * q + p < 60 := by omega
    have l10 := (hI.2.2.1 _ hi).2
    have a1 := plainN_le S (3 * q + p) (nt S (3 * q + p))
    have a2 := leastN_le S q p
    have key : Z g x 6 94 [some (.ref m), some (.int (nI q)), none, some (.int (nI (3 * q + p))), none, none] [.int (nI (leastN S q (p + 1)))] w 0 0 := by
      refine Z.istore_n (i := 2) ok dX2_size_94 rfl (by decide) ?_
      refine Z.iinc ok dX2_size_95 rfl rfl ?_
      refine Z.goto (tgt := 19) ok dX2_size_98 (by decide) ?_
      simp only [m3, m4, nI_add, nI_1, i1, List.set_cons_zero, List.set_cons_succ]
      exact ih (p + 1) (by omega)
    rw [leastN] at key
    refine Z.iload ok dX2_size_82 rfl ?_
    refine Z.iload_n ok dX2_size_84 rfl ?_
    refine Z.icmp_ge (tgt := 93) ok dX2_size_85 (by decide) (fun hc => ?_) (fun hc => ?_)
    · rw [if_neg (fun q => absurd ((nI_ltI (by omega) (by omega)).mpr q) (lt_dec.mpr hc))] at key
      refine Z.iload_n ok dX2_size_93 rfl ?_
      exact Z.fg (by simp [fgt]) key
    · rw [if_pos ((nI_ltI (by omega) (by omega)).mp (le_dec.mp hc))] at key
      refine Z.iload ok dX2_size_88 rfl ?_
      refine Z.goto (tgt := 94) ok dX2_size_90 (by decide) ?_
      exact Z.fg (by simp [fgt]) key
theorem size_ct (hM : MR g w m ad S th) (hI : InvA S) {q : Nat} (hq : q < 20) : Ct g yX2_size cX2_size 6 (some .int) 2 0 0 [.ref m, .int (nI q)] w (PW (rI (nI (sizeN S q))) w) noX := by
  refine Ct.of RX2 "size" ⟨rfl, rfl⟩ (by decide +kernel) (by simp [Value.category]) (Nat.le_of_ble_eq_true rfl) (fun x ok hQ hN => ?_)
  show Z g x 6 0 [some (.ref m), some (.int (nI q)), none, none, none, none] [] w 0 0
  have hm := hM.o
  have h5 := hM.a5
  obtain ⟨e5, l5⟩ := hI.2.1 q hq
  have key : Z g x 6 14 [some (.ref m), some (.int (nI q)), none, none, none, none] [.int (nI (leastN S q 0))] w 0 0 := by
    refine Z.istore_n (i := 2) ok dX2_size_14 rfl (by decide) ?_
    refine Z.iconst_3 ok dX2_size_15 ?_
    refine Z.iload_n ok dX2_size_16 rfl ?_
    refine Z.imul ok dX2_size_17 ?_
    refine Z.istore_n (i := 3) ok dX2_size_18 rfl (by decide) ?_
    simp only [m3, m4, nI_add, nI_1, i1, List.set_cons_zero, List.set_cons_succ]
    refine size_out ok hM hI hq ?_ (np S q) 0 (by omega)
    refine Z.iload_n ok dX2_size_101 rfl ?_
    refine Z.iret ok hQ rfl dX2_size_102 ?_
    exact ⟨rfl, rfl⟩
  unfold leastN at key
  refine Z.aload_n ok dX2_size_0 rfl (by first | exact isRf.r _ | exact isRf.n | exact isRf.v _ | assumption) ?_
  refine Z.get (ci := 1) (C := RX2) (T := TX2) (N := 15) ok (by first | assumption | exact ws_s | (rw [ws_n (by assumption)]; assumption)) rfl in_X2 5 (by decide) q1458 (Or.inl rfl) (by rfl) dX2_size_1 ?_
  refine Z.iload_n ok dX2_size_4 rfl ?_
  refine Z.ialdN ok h5 hq (by decide) dX2_size_5 ?_
  refine Z.if_ne (tgt := 13) ok dX2_size_6 (by decide) (fun hc => ?_) (fun hc => ?_)
  · rw [e5] at hc
    rw [if_neg (fun h => hc (by rw [h]; rfl))] at key
    refine Z.iconst_4 ok dX2_size_13 ?_
    exact key
  · rw [if_pos (by unfold np; rw [hc]; rfl)] at key
    refine Z.iconst_0 ok dX2_size_9 ?_
    refine Z.goto (tgt := 14) ok dX2_size_10 (by decide) ?_
    exact key
theorem isQ_nI (hI : InvA S) {q : Nat} (hq : q < nq S) : isQ S (nI q) = decide (S 4 q = 0) := by
  have hn := hI.1.2
  by_cases h : S 4 q = 0
  · rw [decide_eq_true h]
    exact (isQ_iff hI).mpr ⟨q, hq, rfl, h⟩
  · rw [decide_eq_false h]
    cases hb : isQ S (nI q) with
    | false => rfl
    | true =>
      obtain ⟨i, hi, e, h0⟩ := (isQ_iff hI).mp hb
      have := (nI_eq (by omega) (by omega)).mp e
      subst this
      exact absurd h0 h
theorem found_lp (ok : OK g x RX2 cX2_found 3 3 (some .int)) (hM : MR g w m ad S th) (hI : InvA S) (kk : Z g x 3 44 [some (.ref m), some (.int (foundS S (nq S))), some (.int (nI (nq S)))] [] w 0 0) : ∀ d q, q + d = nq S → Z g x 3 4 [some (.ref m), some (.int (foundS S q)), some (.int (nI q))] [] w 0 0 := by
  have hm := hM.o
  have hn := hI.1.2
  intro d
  induction d with
  | zero =>
    intro q hq
    refine Z.iload_n ok dX2_found_4 rfl ?_
    refine Z.aload_n ok dX2_found_5 rfl (by first | exact isRf.r _ | exact isRf.n | exact isRf.v _ | assumption) ?_
    refine Z.get (ci := 1) (C := RX2) (T := TX2) (N := 15) ok (by first | assumption | exact ws_s | (rw [ws_n (by assumption)]; assumption)) rfl in_X2 2 (by decide) q1455 (Or.inl rfl) (by rfl) dX2_found_6 ?_
    rw [hI.1.1]
    refine Z.icmp_ge (tgt := 44) ok dX2_found_9 (by decide) (fun _ => ?_) (fun hc => absurd (nI_le (by omega) (by omega)) hc)
    rw [show q = nq S by omega]
    exact kk
  | succ d ih =>
    intro q hq
    refine Z.iload_n ok dX2_found_4 rfl ?_
    refine Z.aload_n ok dX2_found_5 rfl (by first | exact isRf.r _ | exact isRf.n | exact isRf.v _ | assumption) ?_
    refine Z.get (ci := 1) (C := RX2) (T := TX2) (N := 15) ok (by first | assumption | exact ws_s | (rw [ws_n (by assumption)]; assumption)) rfl in_X2 2 (by decide) q1455 (Or.inl rfl) (by rfl) dX2_found_6 ?_
    rw [hI.1.1]
    refine Z.icmp_ge (tgt := 44) ok dX2_found_9 (by decide) (fun hc => absurd hc (nI_ge (by omega) (by omega))) (fun _ => ?_)
    have key : Z g x 3 36 [some (.ref m), none, some (.int (nI q))] [.int (if actB S q then bitN q else 0), .int (foundS S q)] w 0 0 := by
      refine Z.ior ok dX2_found_36 ?_
      refine Z.istore_n (i := 1) ok dX2_found_37 rfl (by decide) ?_
      refine Z.iinc ok dX2_found_38 rfl rfl ?_
      refine Z.goto (tgt := 4) ok dX2_found_41 (by decide) ?_
      simp only [m3, m4, nI_add, nI_1, i1, List.set_cons_zero, List.set_cons_succ]
      exact ih (q + 1) (by omega)
    refine Z.iload_n ok dX2_found_12 rfl ?_
    refine Z.aload_n ok dX2_found_13 rfl (by first | exact isRf.r _ | exact isRf.n | exact isRf.v _ | assumption) ?_
    refine Z.iload_n ok dX2_found_14 rfl ?_
    refine Z.callV (ci := 1) (q := (RX2, TX2, 15)) (C := RX2) ok (isQuestion_ct hM hI (nI q)) (by first | assumption | exact ws_s | (rw [ws_n (by assumption)]; assumption)) rfl rfl q1516 q1518 (Or.inl qs8) q22 q1519 nk_X2_isQuestion rfl (by decide) (by first | exact Nat.le_of_ble_eq_true rfl | simp [Value.category, cat_rf]) (Nat.le_refl _) (Nat.le_refl _) dX2_found_15 rfl ZX.no (fun v w1 hp => ?_)
    obtain ⟨rfl, rfl⟩ := hp
    rw [isQ_nI hI (by omega)]
    unfold actB at key
    refine Z.if_eq (tgt := 35) ok dX2_found_18 (by decide) (fun hc => ?_) (fun hc => ?_)
    · rw [bI_0.mp hc, Bool.false_and] at key
      refine Z.iconst_0 ok dX2_found_35 ?_
      exact Z.fg (by simp [fgt]) key
    · rw [bI_n0.mp hc, Bool.true_and] at key
      refine Z.aload_n ok dX2_found_21 rfl (by first | exact isRf.r _ | exact isRf.n | exact isRf.v _ | assumption) ?_
      refine Z.iload_n ok dX2_found_22 rfl ?_
      refine Z.callV (ci := 1) (q := (RX2, TX2, 15)) (C := RX2) ok (does_ct hM hI (q := q) (by omega)) (by first | assumption | exact ws_s | (rw [ws_n (by assumption)]; assumption)) rfl rfl q1549 q1551 (Or.inl qs9) q22 q1552 nk_X2_does rfl (by decide) (by first | exact Nat.le_of_ble_eq_true rfl | simp [Value.category, cat_rf]) (Nat.le_refl _) (Nat.le_refl _) dX2_found_23 rfl ZX.no (fun v w1 hp => ?_)
      obtain ⟨rfl, rfl⟩ := hp
      refine Z.if_eq (tgt := 35) ok dX2_found_26 (by decide) (fun hd => ?_) (fun hd => ?_)
      · rw [bI_0.mp hd] at key
        refine Z.iconst_0 ok dX2_found_35 ?_
        exact Z.fg (by simp [fgt]) key
      · rw [bI_n0.mp hd] at key
        refine Z.iconst_1 ok dX2_found_29 ?_
        refine Z.iload_n ok dX2_found_30 rfl ?_
        refine Z.ishl ok dX2_found_31 rfl ?_
        refine Z.goto (tgt := 36) ok dX2_found_32 (by decide) ?_
        exact Z.fg (by simp [fgt]) key
theorem found_ct (hM : MR g w m ad S th) (hI : InvA S) : Ct g yX2_found cX2_found 3 (some .int) 3 0 0 [.ref m] w (PW (rI (foundS S (nq S))) w) noX := by
  refine Ct.of RX2 "found" ⟨rfl, rfl⟩ (by decide +kernel) (by simp [Value.category]) (Nat.le_of_ble_eq_true rfl) (fun x ok hQ hN => ?_)
  show Z g x 3 0 [some (.ref m), none, none] [] w 0 0
  refine Z.iconst_0 ok dX2_found_0 ?_
  refine Z.istore_n (i := 1) ok dX2_found_1 rfl (by decide) ?_
  refine Z.iconst_0 ok dX2_found_2 ?_
  refine Z.istore_n (i := 2) ok dX2_found_3 rfl (by decide) ?_
  simp only [m3, m4, nI_add, nI_1, i1, List.set_cons_zero, List.set_cons_succ]
  refine found_lp ok hM hI ?_ (nq S) 0 (by omega)
  refine Z.iload_n ok dX2_found_44 rfl ?_
  refine Z.iret ok hQ rfl dX2_found_45 ?_
  exact ⟨rfl, rfl⟩
end MODEL3
