/-! ===== THE REFERENCE: its loops ===== -/
section MODEL2
variable {g : Gx} {w : Wd} {m : Nat} {ad : Nat → Nat} {S : St} {th : Int32} {x : Cx} {lv : Nat}
theorem i4 (i : Nat) {k : Nat} (hk : k < 60) (h : k = i) : 4 * i < 240 := by omega
theorem does_in (ok : OK g x RX2 cX2_does 6 2 (some .boolean)) (hM : MR g w m ad S th) (hI : InvA S) {q i : Nat} (v2 : Int32) (hi : i < 60) (kk : Z g x 6 70 [some (.ref m), some (.int (nI q)), some (.int v2), some (.int (nI i)), some (.int (bI (prodB S i))), some (.int (nI (4 * i + nt S i)))] [] w 0 0) : ∀ d t, t + d = nt S i → Z g x 6 28 [some (.ref m), some (.int (nI q)), some (.int v2), some (.int (nI i)), some (.int (bI ((List.range t).all fun t => tstB S (4 * i + t)))), some (.int (nI (4 * i + t)))] [] w 0 0 := by
  have hm := hM.o
  have h10 := hM.a10
  obtain ⟨e10, l10⟩ := hI.2.2.1 i hi
  intro d
  induction d with
  | zero =>
    intro t ht
    refine Z.iload ok dX2_does_28 rfl ?_
    refine Z.iconst_4 ok dX2_does_30 ?_
    refine Z.iload_n ok dX2_does_31 rfl ?_
    refine Z.imul ok dX2_does_32 ?_
    refine Z.aload_n ok dX2_does_33 rfl (by first | exact isRf.r _ | exact isRf.n | exact isRf.v _ | assumption) ?_
    refine Z.get (ci := 1) (C := RX2) (T := TX2) (N := 15) ok (by first | assumption | exact ws_s | (rw [ws_n (by assumption)]; assumption)) rfl in_X2 10 (by decide) q1463 (Or.inl rfl) (by rfl) dX2_does_34 ?_
    refine Z.iload_n ok dX2_does_37 rfl ?_
    refine Z.ialdN ok h10 hi (by decide) dX2_does_38 ?_
    rw [e10]
    refine Z.iadd ok dX2_does_39 ?_
    simp only [m3, m4, nI_add, nI_1, i1, List.set_cons_zero, List.set_cons_succ]
    refine Z.icmp_ge (tgt := 70) ok dX2_does_40 (by decide) (fun _ => ?_) (fun hc => absurd (nI_le (by omega) (by omega)) hc)
    rw [show t = nt S i by omega]
    exact kk
  | succ d ih =>
    intro t ht
    refine Z.iload ok dX2_does_28 rfl ?_
    refine Z.iconst_4 ok dX2_does_30 ?_
    refine Z.iload_n ok dX2_does_31 rfl ?_
    refine Z.imul ok dX2_does_32 ?_
    refine Z.aload_n ok dX2_does_33 rfl (by first | exact isRf.r _ | exact isRf.n | exact isRf.v _ | assumption) ?_
    refine Z.get (ci := 1) (C := RX2) (T := TX2) (N := 15) ok (by first | assumption | exact ws_s | (rw [ws_n (by assumption)]; assumption)) rfl in_X2 10 (by decide) q1463 (Or.inl rfl) (by rfl) dX2_does_34 ?_
    refine Z.iload_n ok dX2_does_37 rfl ?_
    refine Z.ialdN ok h10 hi (by decide) dX2_does_38 ?_
    rw [e10]
    refine Z.iadd ok dX2_does_39 ?_
    simp only [m3, m4, nI_add, nI_1, i1, List.set_cons_zero, List.set_cons_succ]
    refine Z.icmp_ge (tgt := 70) ok dX2_does_40 (by decide) (fun hc => absurd hc (nI_ge (by omega) (by omega))) (fun _ => ?_)
    have key : Z g x 6 62 [some (.ref m), some (.int (nI q)), some (.int v2), some (.int (nI i)), none, some (.int (nI (4 * i + t)))] [.int (bI ((List.range (t + 1)).all fun t => tstB S (4 * i + t)))] w 0 0 := by
      refine Z.istore ok dX2_does_62 (by decide) ?_
      refine Z.iinc ok dX2_does_64 rfl rfl ?_
      refine Z.goto (tgt := 28) ok dX2_does_67 (by decide) ?_
      simp only [m3, m4, nI_add, nI_1, i1, List.set_cons_zero, List.set_cons_succ]
      exact ih (t + 1) (by omega)
    rw [all_step] at key
    refine Z.iload ok dX2_does_43 rfl ?_
    refine Z.if_eq (tgt := 61) ok dX2_does_45 (by decide) (fun hc => ?_) (fun hc => ?_)
    · rw [bI_0.mp hc] at key
      refine Z.iconst_0 ok dX2_does_61 ?_
      exact Z.fg (by simp [fgt]) key
    · rw [bI_n0.mp hc] at key
      refine Z.aload_n ok dX2_does_48 rfl (by first | exact isRf.r _ | exact isRf.n | exact isRf.v _ | assumption) ?_
      refine Z.iload ok dX2_does_49 rfl ?_
      refine Z.callV (ci := 1) (q := (RX2, TX2, 15)) (C := RX2) ok (isTrueM_ct hM hI (4 * i + t) (by omega)) (by first | assumption | exact ws_s | (rw [ws_n (by assumption)]; assumption)) rfl rfl q1553 q1555 (Or.inl qs10) q22 q1556 nk_X2_isTrue rfl (by decide) (by decide) (Nat.le_refl _) (Nat.le_refl _) dX2_does_51 rfl ZX.no (fun v w1 hp => ?_)
      obtain ⟨rfl, rfl⟩ := hp
      refine Z.if_eq (tgt := 61) ok dX2_does_54 (by decide) (fun hd => ?_) (fun hd => ?_)
      · rw [bI_0.mp hd] at key
        refine Z.iconst_0 ok dX2_does_61 ?_
        exact Z.fg (by simp [fgt]) key
      · rw [bI_n0.mp hd] at key
        refine Z.iconst_1 ok dX2_does_57 ?_
        refine Z.goto (tgt := 62) ok dX2_does_58 (by decide) ?_
        exact Z.fg (by simp [fgt]) key
theorem does_out (ok : OK g x RX2 cX2_does 6 2 (some .boolean)) (hM : MR g w m ad S th) (hI : InvA S) {q : Nat} (hq : q < 20) (kk : Z g x 6 91 [some (.ref m), some (.int (nI q)), some (.int (bI (doesB S q))), some (.int (nI (3 * q + np S q))), none, none] [] w 0 0) : ∀ d p, p + d = np S q → Z g x 6 6 [some (.ref m), some (.int (nI q)), some (.int (bI ((List.range p).any fun p => prodB S (3 * q + p)))), some (.int (nI (3 * q + p))), none, none] [] w 0 0 := by
  have hm := hM.o
  have h5 := hM.a5
  obtain ⟨e5, l5⟩ := hI.2.1 q hq
  intro d
  induction d with
  | zero =>
    intro p hp
    refine Z.iload_n ok dX2_does_6 rfl ?_
    refine Z.iconst_3 ok dX2_does_7 ?_
    refine Z.iload_n ok dX2_does_8 rfl ?_
    refine Z.imul ok dX2_does_9 ?_
    refine Z.aload_n ok dX2_does_10 rfl (by first | exact isRf.r _ | exact isRf.n | exact isRf.v _ | assumption) ?_
    refine Z.get (ci := 1) (C := RX2) (T := TX2) (N := 15) ok (by first | assumption | exact ws_s | (rw [ws_n (by assumption)]; assumption)) rfl in_X2 5 (by decide) q1458 (Or.inl rfl) (by rfl) dX2_does_11 ?_
    refine Z.iload_n ok dX2_does_14 rfl ?_
    refine Z.ialdN ok h5 hq (by decide) dX2_does_15 ?_
    rw [e5]
    refine Z.iadd ok dX2_does_16 ?_
    simp only [m3, m4, nI_add, nI_1, i1, List.set_cons_zero, List.set_cons_succ]
    refine Z.icmp_ge (tgt := 91) ok dX2_does_17 (by decide) (fun _ => ?_) (fun hc => absurd (nI_le (by omega) (by omega)) hc)
    rw [show p = np S q by omega]
    exact kk
  | succ d ih =>
    intro p hp
    refine Z.iload_n ok dX2_does_6 rfl ?_
    refine Z.iconst_3 ok dX2_does_7 ?_
    refine Z.iload_n ok dX2_does_8 rfl ?_
    refine Z.imul ok dX2_does_9 ?_
    refine Z.aload_n ok dX2_does_10 rfl (by first | exact isRf.r _ | exact isRf.n | exact isRf.v _ | assumption) ?_
    refine Z.get (ci := 1) (C := RX2) (T := TX2) (N := 15) ok (by first | assumption | exact ws_s | (rw [ws_n (by assumption)]; assumption)) rfl in_X2 5 (by decide) q1458 (Or.inl rfl) (by rfl) dX2_does_11 ?_
    refine Z.iload_n ok dX2_does_14 rfl ?_
    refine Z.ialdN ok h5 hq (by decide) dX2_does_15 ?_
    rw [e5]
    refine Z.iadd ok dX2_does_16 ?_
    simp only [m3, m4, nI_add, nI_1, i1, List.set_cons_zero, List.set_cons_succ]
    refine Z.icmp_ge (tgt := 91) ok dX2_does_17 (by decide) (fun hc => absurd hc (nI_ge (by omega) (by omega))) (fun _ => ?_)
    refine Z.iconst_1 ok dX2_does_20 ?_
    refine Z.istore ok dX2_does_21 (by decide) ?_
    refine Z.iconst_4 ok dX2_does_23 ?_
    refine Z.iload_n ok dX2_does_24 rfl ?_
    refine Z.imul ok dX2_does_25 ?_
    refine Z.istore ok dX2_does_26 (by decide) ?_
    simp only [m3, m4, nI_add, nI_1, i1, List.set_cons_zero, List.set_cons_succ]
    refine does_in ok hM hI _ (by omega) ?_ (nt S (3 * q + p)) 0 (by omega)
    have key : Z g x 6 84 [some (.ref m), some (.int (nI q)), none, some (.int (nI (3 * q + p))), none, none] [.int (bI ((List.range (p + 1)).any fun p => prodB S (3 * q + p)))] w 0 0 := by
      refine Z.istore_n (i := 2) ok dX2_does_84 rfl (by decide) ?_
      refine Z.iinc ok dX2_does_85 rfl rfl ?_
      refine Z.goto (tgt := 6) ok dX2_does_88 (by decide) ?_
      simp only [m3, m4, nI_add, nI_1, i1, List.set_cons_zero, List.set_cons_succ]
      exact ih (p + 1) (by omega)
    rw [any_step] at key
    refine Z.iload_n ok dX2_does_70 rfl ?_
    refine Z.if_ne (tgt := 79) ok dX2_does_71 (by decide) (fun hc => ?_) (fun hc => ?_)
    · rw [bI_n0.mp hc] at key
      refine Z.iconst_1 ok dX2_does_79 ?_
      refine Z.goto (tgt := 84) ok dX2_does_80 (by decide) ?_
      exact Z.fg (by simp [fgt]) key
    · rw [bI_0.mp hc] at key
      refine Z.iload ok dX2_does_74 rfl ?_
      refine Z.if_eq (tgt := 83) ok dX2_does_76 (by decide) (fun hd => ?_) (fun hd => ?_)
      · rw [bI_0.mp hd] at key
        refine Z.iconst_0 ok dX2_does_83 ?_
        exact Z.fg (by simp [fgt]) key
      · rw [bI_n0.mp hd] at key
        refine Z.iconst_1 ok dX2_does_79 ?_
        refine Z.goto (tgt := 84) ok dX2_does_80 (by decide) ?_
        exact Z.fg (by simp [fgt]) key
theorem does_ct (hM : MR g w m ad S th) (hI : InvA S) {q : Nat} (hq : q < 20) : Ct g yX2_does cX2_does 6 (some .boolean) 2 0 0 [.ref m, .int (nI q)] w (PW (rI (bI (doesB S q))) w) noX := by
  refine Ct.of RX2 "does" ⟨rfl, rfl⟩ (by decide +kernel) (by simp [Value.category]) (Nat.le_of_ble_eq_true rfl) (fun x ok hQ hN => ?_)
  show Z g x 6 0 [some (.ref m), some (.int (nI q)), none, none, none, none] [] w 0 0
  refine Z.iconst_0 ok dX2_does_0 ?_
  refine Z.istore_n (i := 2) ok dX2_does_1 rfl (by decide) ?_
  refine Z.iconst_3 ok dX2_does_2 ?_
  refine Z.iload_n ok dX2_does_3 rfl ?_
  refine Z.imul ok dX2_does_4 ?_
  refine Z.istore_n (i := 3) ok dX2_does_5 rfl (by decide) ?_
  simp only [m3, m4, nI_add, nI_1, i1, List.set_cons_zero, List.set_cons_succ]
  refine does_out ok hM hI hq ?_ (np S q) 0 (by omega)
  refine Z.iload_n ok dX2_does_91 rfl ?_
  refine Z.iret ok hQ (bI_nar _) dX2_does_92 ?_
  exact ⟨rfl, rfl⟩
end MODEL2
