/-! ===== THE REFERENCE: its public methods ===== -/
section MODEL5
variable {g : Gx} {w : Wd} {m : Nat} {ad : Nat → Nat} {S : St} {th : Int32} {x : Cx}
def qK (S : St) (q : Int32) : Int32 := if isQ S q then 0 else 1
abbrev qN (q : Int32) : Nat := q.toNatClampNeg
theorem isQ_le (hI : InvA S) {q : Int32} (h : isQ S q = true) : ∃ i, i < nq S ∧ i < 20 ∧ q = nI i ∧ qN q = i ∧ S 4 i = 0 := by
  obtain ⟨i, hi, e, h0⟩ := (isQ_iff hI).mp h
  have := hI.1.2
  exact ⟨i, hi, by omega, e, by rw [e]; exact nI_clamp (by omega), h0⟩

theorem dropM_ct (hM : MR g w m ad S th) (hI : InvA S) (q : Int32) : Ct g yX2_drop cX2_drop 2 (some .int) 4 0 0 [.ref m, .int q] w (PM g w m ad (rI (if qK S q = 0 then S 9 (qN q) else 0)) (if qK S q = 0 then up2 S 4 (qN q) 1 else S) (qK S q)) noX := by
  refine Ct.of RX2 "drop" ⟨rfl, rfl⟩ (by decide +kernel) (by simp [Value.category]) (Nat.le_of_ble_eq_true rfl) (fun x ok hQ hN => ?_)
  show Z g x 2 0 [some (.ref m), some (.int q)] [] w 0 0
  have hm := hM.o
  have key : ∀ k, k = qK S q → Z g x 2 14 [some (.ref m), some (.int q)] [.int k, .ref m] w 0 0 := by
    intro k hk
    refine Z.callV (ci := 1) (q := (RX2, TX2, 15)) (C := RX2) ok (holds_ct hM k) (by first | assumption | exact ws_s | (rw [ws_n (by assumption)]; assumption)) rfl rfl q1508 q1510 (Or.inl qs7) q22 q1511 nk_X2_holds rfl (by decide) (by first | exact Nat.le_of_ble_eq_true rfl | simp [Value.category, cat_rf]) (Nat.le_refl _) (Nat.le_refl _) dX2_drop_14 rfl ZX.no (fun v w1 hp => ?_)
    obtain ⟨rfl, hM1, hF1⟩ := hp
    have hm1 := hM1.o
    refine Z.if_ne (tgt := 22) ok dX2_drop_17 (by decide) (fun hc => ?_) (fun hc => ?_)
    · have h0 : k = 0 := of_decide_eq_true (bI_n0.mp hc)
      have hq : isQ S q = true := by
        cases hb : isQ S q with
        | true => rfl
        | false => rw [qK, hb] at hk; rw [hk] at h0; exact absurd h0 (by decide)
      obtain ⟨i, hi, hi20, rfl, e, hd⟩ := isQ_le hI hq
      subst h0
      have h4 := hM1.a4
      refine Z.aload_n ok dX2_drop_22 rfl (by first | exact isRf.r _ | exact isRf.n | exact isRf.v _ | assumption) ?_
      refine Z.get (ci := 1) (C := RX2) (T := TX2) (N := 15) ok (by first | assumption | exact ws_s | (rw [ws_n (by assumption)]; assumption)) rfl in_X2 4 (by decide) q1457 (Or.inl rfl) (by rfl) dX2_drop_23 ?_
      refine Z.iload_n ok dX2_drop_26 rfl ?_
      refine Z.iconst_1 ok dX2_drop_27 ?_
      refine Z.zastN ok h4 (by decide) (Or.inr rfl) hi20 (by decide) dX2_drop_28 ?_
      obtain ⟨hM2, hF2⟩ := hM1.st 4 i 1 (by decide) (by decide)
      generalize hw2 : wset w1 (ad 4) (eZ g 20 (upd (S 4) i 1)) 24 = w2
      have hM2 : MR g w2 m ad (up2 S 4 i 1) 0 := by rw [← hw2]; exact hM2
      have hF2 : FrM w1 w2 := by rw [← hw2]; exact hF2
      have hm := hM2.o
      have h9 := hM2.a9
      refine Z.aload_n ok dX2_drop_29 rfl (by first | exact isRf.r _ | exact isRf.n | exact isRf.v _ | assumption) ?_
      refine Z.get (ci := 1) (C := RX2) (T := TX2) (N := 15) ok (by first | assumption | exact ws_s | (rw [ws_n (by assumption)]; assumption)) rfl in_X2 9 (by decide) q1462 (Or.inl rfl) (by rfl) dX2_drop_30 ?_
      refine Z.iload_n ok dX2_drop_33 rfl ?_
      refine Z.ialdN ok h9 hi20 (by decide) dX2_drop_34 ?_
      refine Z.iret ok hQ rfl dX2_drop_35 ?_
      rw [e]
      exact ⟨by rw [if_pos hk.symm, up2_k (by decide)], by rw [if_pos hk.symm, ← hk]; exact hM2, hF1.tr hF2⟩
    · have h0 : ¬ k = 0 := of_decide_eq_false (bI_0.mp hc)
      refine Z.iconst_0 ok dX2_drop_20 ?_
      refine Z.iret ok hQ rfl dX2_drop_21 ?_
      rw [← hk, if_neg h0, if_neg h0]
      exact ⟨rfl, hM1, hF1⟩
  refine Z.aload_n ok dX2_drop_0 rfl (by first | exact isRf.r _ | exact isRf.n | exact isRf.v _ | assumption) ?_
  refine Z.aload_n ok dX2_drop_1 rfl (by first | exact isRf.r _ | exact isRf.n | exact isRf.v _ | assumption) ?_
  refine Z.iload_n ok dX2_drop_2 rfl ?_
  refine Z.callV (ci := 1) (q := (RX2, TX2, 15)) (C := RX2) ok (isQuestion_ct hM hI q) (by first | assumption | exact ws_s | (rw [ws_n (by assumption)]; assumption)) rfl rfl q1516 q1518 (Or.inl qs8) q22 q1519 nk_X2_isQuestion rfl (by decide) (by first | exact Nat.le_of_ble_eq_true rfl | simp [Value.category, cat_rf]) (Nat.le_refl _) (Nat.le_refl _) dX2_drop_3 rfl ZX.no (fun v w1 hp => ?_)
  obtain ⟨rfl, rfl⟩ := hp
  unfold qK at key
  refine Z.if_eq (tgt := 13) ok dX2_drop_6 (by decide) (fun hc => ?_) (fun hc => ?_)
  · rw [bI_0.mp hc] at key
    refine Z.iconst_1 ok dX2_drop_13 ?_
    exact key 1 rfl
  · rw [bI_n0.mp hc] at key
    refine Z.iconst_0 ok dX2_drop_9 ?_
    refine Z.goto (tgt := 14) ok dX2_drop_10 (by decide) ?_
    exact key 0 rfl

theorem satisfiesM_ct (hM : MR g w m ad S th) (hI : InvA S) (q : Int32) : Ct g yX2_satisfies cX2_satisfies 2 (some .boolean) 4 0 0 [.ref m, .int q] w (PM g w m ad (rI (bI (isQ S q && doesB S (qN q)))) S (qK S q)) noX := by
  refine Ct.of RX2 "satisfies" ⟨rfl, rfl⟩ (by decide +kernel) (by simp [Value.category]) (Nat.le_of_ble_eq_true rfl) (fun x ok hQ hN => ?_)
  show Z g x 2 0 [some (.ref m), some (.int q)] [] w 0 0
  have hm := hM.o
  have key : ∀ k, k = qK S q → Z g x 2 14 [some (.ref m), some (.int q)] [.int k, .ref m] w 0 0 := by
    intro k hk
    refine Z.callV (ci := 1) (q := (RX2, TX2, 15)) (C := RX2) ok (holds_ct hM k) (by first | assumption | exact ws_s | (rw [ws_n (by assumption)]; assumption)) rfl rfl q1508 q1510 (Or.inl qs7) q22 q1511 nk_X2_holds rfl (by decide) (by first | exact Nat.le_of_ble_eq_true rfl | simp [Value.category, cat_rf]) (Nat.le_refl _) (Nat.le_refl _) dX2_satisfies_14 rfl ZX.no (fun v w1 hp => ?_)
    obtain ⟨rfl, hM1, hF1⟩ := hp
    have hm1 := hM1.o
    refine Z.if_eq (tgt := 32) ok dX2_satisfies_17 (by decide) (fun hc => ?_) (fun hc => ?_)
    · have h0 : ¬ k = 0 := of_decide_eq_false (bI_0.mp hc)
      have hq : isQ S q = false := by
        cases hb : isQ S q with
        | false => rfl
        | true => rw [qK, hb] at hk; exact absurd hk h0
      refine Z.iconst_0 ok dX2_satisfies_32 ?_
      refine Z.iret ok hQ rfl dX2_satisfies_33 ?_
      rw [← hk, hq]
      exact ⟨rfl, hM1, hF1⟩
    · have h0 : k = 0 := of_decide_eq_true (bI_n0.mp hc)
      have hq : isQ S q = true := by
        cases hb : isQ S q with
        | true => rfl
        | false => rw [qK, hb] at hk; rw [hk] at h0; exact absurd h0 (by decide)
      obtain ⟨i, hi, hi20, rfl, e, hd⟩ := isQ_le hI hq
      subst h0
      refine Z.aload_n ok dX2_satisfies_20 rfl (by first | exact isRf.r _ | exact isRf.n | exact isRf.v _ | assumption) ?_
      refine Z.iload_n ok dX2_satisfies_21 rfl ?_
      refine Z.callV (ci := 1) (q := (RX2, TX2, 15)) (C := RX2) ok (does_ct hM1 hI (q := i) hi20) (by first | assumption | exact ws_s | (rw [ws_n (by assumption)]; assumption)) rfl rfl q1549 q1551 (Or.inl qs9) q22 q1552 nk_X2_does rfl (by decide) (by first | exact Nat.le_of_ble_eq_true rfl | simp [Value.category, cat_rf]) (Nat.le_refl _) (Nat.le_refl _) dX2_satisfies_22 rfl ZX.no (fun v w2 hp => ?_)
      obtain ⟨rfl, rfl⟩ := hp
      refine Z.if_eq (tgt := 32) ok dX2_satisfies_25 (by decide) (fun hd2 => ?_) (fun hd2 => ?_)
      · refine Z.iconst_0 ok dX2_satisfies_32 ?_
        refine Z.iret ok hQ rfl dX2_satisfies_33 ?_
        exact ⟨by rw [e, bI_0.mp hd2, Bool.and_false]; rfl, by rw [← hk]; exact hM1, hF1⟩
      · refine Z.iconst_1 ok dX2_satisfies_28 ?_
        refine Z.goto (tgt := 33) ok dX2_satisfies_29 (by decide) ?_
        refine Z.iret ok hQ rfl dX2_satisfies_33 ?_
        exact ⟨by rw [e, bI_n0.mp hd2, hq]; rfl, by rw [← hk]; exact hM1, hF1⟩
  refine Z.aload_n ok dX2_satisfies_0 rfl (by first | exact isRf.r _ | exact isRf.n | exact isRf.v _ | assumption) ?_
  refine Z.aload_n ok dX2_satisfies_1 rfl (by first | exact isRf.r _ | exact isRf.n | exact isRf.v _ | assumption) ?_
  refine Z.iload_n ok dX2_satisfies_2 rfl ?_
  refine Z.callV (ci := 1) (q := (RX2, TX2, 15)) (C := RX2) ok (isQuestion_ct hM hI q) (by first | assumption | exact ws_s | (rw [ws_n (by assumption)]; assumption)) rfl rfl q1516 q1518 (Or.inl qs8) q22 q1519 nk_X2_isQuestion rfl (by decide) (by first | exact Nat.le_of_ble_eq_true rfl | simp [Value.category, cat_rf]) (Nat.le_refl _) (Nat.le_refl _) dX2_satisfies_3 rfl ZX.no (fun v w1 hp => ?_)
  obtain ⟨rfl, rfl⟩ := hp
  unfold qK at key
  refine Z.if_eq (tgt := 13) ok dX2_satisfies_6 (by decide) (fun hc => ?_) (fun hc => ?_)
  · rw [bI_0.mp hc] at key
    refine Z.iconst_1 ok dX2_satisfies_13 ?_
    exact key 1 rfl
  · rw [bI_n0.mp hc] at key
    refine Z.iconst_0 ok dX2_satisfies_9 ?_
    refine Z.goto (tgt := 14) ok dX2_satisfies_10 (by decide) ?_
    exact key 0 rfl

theorem isQuietM_ct (hM : MR g w m ad S th) (hI : InvA S) (q : Int32) : Ct g yX2_isQuiet cX2_isQuiet 2 (some .boolean) 4 0 0 [.ref m, .int q] w (PM g w m ad (rI (bI (isQ S q && decide (S 1 0 < S 7 (qN q))))) S (qK S q)) noX := by
  refine Ct.of RX2 "isQuiet" ⟨rfl, rfl⟩ (by decide +kernel) (by simp [Value.category]) (Nat.le_of_ble_eq_true rfl) (fun x ok hQ hN => ?_)
  show Z g x 2 0 [some (.ref m), some (.int q)] [] w 0 0
  have hm := hM.o
  have key : ∀ k, k = qK S q → Z g x 2 14 [some (.ref m), some (.int q)] [.int k, .ref m] w 0 0 := by
    intro k hk
    refine Z.callV (ci := 1) (q := (RX2, TX2, 15)) (C := RX2) ok (holds_ct hM k) (by first | assumption | exact ws_s | (rw [ws_n (by assumption)]; assumption)) rfl rfl q1508 q1510 (Or.inl qs7) q22 q1511 nk_X2_holds rfl (by decide) (by first | exact Nat.le_of_ble_eq_true rfl | simp [Value.category, cat_rf]) (Nat.le_refl _) (Nat.le_refl _) dX2_isQuiet_14 rfl ZX.no (fun v w1 hp => ?_)
    obtain ⟨rfl, hM1, hF1⟩ := hp
    have hm1 := hM1.o
    refine Z.if_eq (tgt := 32) ok dX2_isQuiet_17 (by decide) (fun hc => ?_) (fun hc => ?_)
    · have h0 : ¬ k = 0 := of_decide_eq_false (bI_0.mp hc)
      have hq : isQ S q = false := by
        cases hb : isQ S q with
        | false => rfl
        | true => rw [qK, hb] at hk; exact absurd hk h0
      refine Z.iconst_0 ok dX2_isQuiet_32 ?_
      refine Z.iret ok hQ rfl dX2_isQuiet_33 ?_
      rw [← hk, hq]
      exact ⟨rfl, hM1, hF1⟩
    · have h0 : k = 0 := of_decide_eq_true (bI_n0.mp hc)
      have hq : isQ S q = true := by
        cases hb : isQ S q with
        | true => rfl
        | false => rw [qK, hb] at hk; rw [hk] at h0; exact absurd h0 (by decide)
      obtain ⟨i, hi, hi20, rfl, e, hd⟩ := isQ_le hI hq
      subst h0
      refine Z.aload_n ok dX2_isQuiet_20 rfl (by first | exact isRf.r _ | exact isRf.n | exact isRf.v _ | assumption) ?_
      refine Z.iload_n ok dX2_isQuiet_21 rfl ?_
      refine Z.callV (ci := 1) (q := (RX2, TX2, 15)) (C := RX2) ok (quietNow_ct hM1 (q := i) hi20) (by first | assumption | exact ws_s | (rw [ws_n (by assumption)]; assumption)) rfl rfl q1557 q1559 (Or.inl qs11) q22 q1560 nk_X2_quietNow rfl (by decide) (by first | exact Nat.le_of_ble_eq_true rfl | simp [Value.category, cat_rf]) (Nat.le_refl _) (Nat.le_refl _) dX2_isQuiet_22 rfl ZX.no (fun v w2 hp => ?_)
      obtain ⟨rfl, rfl⟩ := hp
      refine Z.if_eq (tgt := 32) ok dX2_isQuiet_25 (by decide) (fun hd2 => ?_) (fun hd2 => ?_)
      · refine Z.iconst_0 ok dX2_isQuiet_32 ?_
        refine Z.iret ok hQ rfl dX2_isQuiet_33 ?_
        exact ⟨by rw [e, bI_0.mp hd2, Bool.and_false]; rfl, by rw [← hk]; exact hM1, hF1⟩
      · refine Z.iconst_1 ok dX2_isQuiet_28 ?_
        refine Z.goto (tgt := 33) ok dX2_isQuiet_29 (by decide) ?_
        refine Z.iret ok hQ rfl dX2_isQuiet_33 ?_
        exact ⟨by rw [e, bI_n0.mp hd2, hq]; rfl, by rw [← hk]; exact hM1, hF1⟩
  refine Z.aload_n ok dX2_isQuiet_0 rfl (by first | exact isRf.r _ | exact isRf.n | exact isRf.v _ | assumption) ?_
  refine Z.aload_n ok dX2_isQuiet_1 rfl (by first | exact isRf.r _ | exact isRf.n | exact isRf.v _ | assumption) ?_
  refine Z.iload_n ok dX2_isQuiet_2 rfl ?_
  refine Z.callV (ci := 1) (q := (RX2, TX2, 15)) (C := RX2) ok (isQuestion_ct hM hI q) (by first | assumption | exact ws_s | (rw [ws_n (by assumption)]; assumption)) rfl rfl q1516 q1518 (Or.inl qs8) q22 q1519 nk_X2_isQuestion rfl (by decide) (by first | exact Nat.le_of_ble_eq_true rfl | simp [Value.category, cat_rf]) (Nat.le_refl _) (Nat.le_refl _) dX2_isQuiet_3 rfl ZX.no (fun v w1 hp => ?_)
  obtain ⟨rfl, rfl⟩ := hp
  unfold qK at key
  refine Z.if_eq (tgt := 13) ok dX2_isQuiet_6 (by decide) (fun hc => ?_) (fun hc => ?_)
  · rw [bI_0.mp hc] at key
    refine Z.iconst_1 ok dX2_isQuiet_13 ?_
    exact key 1 rfl
  · rw [bI_n0.mp hc] at key
    refine Z.iconst_0 ok dX2_isQuiet_9 ?_
    refine Z.goto (tgt := 14) ok dX2_isQuiet_10 (by decide) ?_
    exact key 0 rfl

theorem sizeOfM_ct (hM : MR g w m ad S th) (hI : InvA S) (q : Int32) : Ct g yX2_sizeOf cX2_sizeOf 2 (some .int) 4 0 0 [.ref m, .int q] w (PM g w m ad (rI (if qK S q = 0 then nI (sizeN S (qN q)) else 0)) S (qK S q)) noX := by
  refine Ct.of RX2 "sizeOf" ⟨rfl, rfl⟩ (by decide +kernel) (by simp [Value.category]) (Nat.le_of_ble_eq_true rfl) (fun x ok hQ hN => ?_)
  show Z g x 2 0 [some (.ref m), some (.int q)] [] w 0 0
  have hm := hM.o
  have key : ∀ k, k = qK S q → Z g x 2 14 [some (.ref m), some (.int q)] [.int k, .ref m] w 0 0 := by
    intro k hk
    refine Z.callV (ci := 1) (q := (RX2, TX2, 15)) (C := RX2) ok (holds_ct hM k) (by first | assumption | exact ws_s | (rw [ws_n (by assumption)]; assumption)) rfl rfl q1508 q1510 (Or.inl qs7) q22 q1511 nk_X2_holds rfl (by decide) (by first | exact Nat.le_of_ble_eq_true rfl | simp [Value.category, cat_rf]) (Nat.le_refl _) (Nat.le_refl _) dX2_sizeOf_14 rfl ZX.no (fun v w1 hp => ?_)
    obtain ⟨rfl, hM1, hF1⟩ := hp
    have hm1 := hM1.o
    refine Z.if_eq (tgt := 28) ok dX2_sizeOf_17 (by decide) (fun hc => ?_) (fun hc => ?_)
    · have h0 : ¬ k = 0 := of_decide_eq_false (bI_0.mp hc)
      refine Z.iconst_0 ok dX2_sizeOf_28 ?_
      refine Z.iret ok hQ rfl dX2_sizeOf_29 ?_
      rw [← hk, if_neg h0]
      exact ⟨rfl, hM1, hF1⟩
    · have h0 : k = 0 := of_decide_eq_true (bI_n0.mp hc)
      have hq : isQ S q = true := by
        cases hb : isQ S q with
        | true => rfl
        | false => rw [qK, hb] at hk; rw [hk] at h0; exact absurd h0 (by decide)
      obtain ⟨i, hi, hi20, rfl, e, hd⟩ := isQ_le hI hq
      subst h0
      refine Z.aload_n ok dX2_sizeOf_20 rfl (by first | exact isRf.r _ | exact isRf.n | exact isRf.v _ | assumption) ?_
      refine Z.iload_n ok dX2_sizeOf_21 rfl ?_
      refine Z.callV (ci := 1) (q := (RX2, TX2, 15)) (C := RX2) ok (size_ct hM1 hI (q := i) hi20) (by first | assumption | exact ws_s | (rw [ws_n (by assumption)]; assumption)) rfl rfl q1590 q1592 (Or.inl qs14) q22 q1593 nk_X2_size rfl (by decide) (by first | exact Nat.le_of_ble_eq_true rfl | simp [Value.category, cat_rf]) (Nat.le_refl _) (Nat.le_refl _) dX2_sizeOf_22 rfl ZX.no (fun v w2 hp => ?_)
      obtain ⟨rfl, rfl⟩ := hp
      refine Z.goto (tgt := 29) ok dX2_sizeOf_25 (by decide) ?_
      refine Z.iret ok hQ rfl dX2_sizeOf_29 ?_
      rw [e]
      exact ⟨by rw [if_pos hk.symm], by rw [← hk]; exact hM1, hF1⟩
  refine Z.aload_n ok dX2_sizeOf_0 rfl (by first | exact isRf.r _ | exact isRf.n | exact isRf.v _ | assumption) ?_
  refine Z.aload_n ok dX2_sizeOf_1 rfl (by first | exact isRf.r _ | exact isRf.n | exact isRf.v _ | assumption) ?_
  refine Z.iload_n ok dX2_sizeOf_2 rfl ?_
  refine Z.callV (ci := 1) (q := (RX2, TX2, 15)) (C := RX2) ok (isQuestion_ct hM hI q) (by first | assumption | exact ws_s | (rw [ws_n (by assumption)]; assumption)) rfl rfl q1516 q1518 (Or.inl qs8) q22 q1519 nk_X2_isQuestion rfl (by decide) (by first | exact Nat.le_of_ble_eq_true rfl | simp [Value.category, cat_rf]) (Nat.le_refl _) (Nat.le_refl _) dX2_sizeOf_3 rfl ZX.no (fun v w1 hp => ?_)
  obtain ⟨rfl, rfl⟩ := hp
  unfold qK at key
  refine Z.if_eq (tgt := 13) ok dX2_sizeOf_6 (by decide) (fun hc => ?_) (fun hc => ?_)
  · rw [bI_0.mp hc] at key
    refine Z.iconst_1 ok dX2_sizeOf_13 ?_
    exact key 1 rfl
  · rw [bI_n0.mp hc] at key
    refine Z.iconst_0 ok dX2_sizeOf_9 ?_
    refine Z.goto (tgt := 14) ok dX2_sizeOf_10 (by decide) ?_
    exact key 0 rfl

theorem alertsM_ct (hM : MR g w m ad S th) (hI : InvA S) (q : Int32) : Ct g yX2_alerts cX2_alerts 2 (some .int) 4 0 0 [.ref m, .int q] w (PM g w m ad (rI (if qK S q = 0 then S 8 (qN q) else 0)) S (qK S q)) noX := by
  refine Ct.of RX2 "alerts" ⟨rfl, rfl⟩ (by decide +kernel) (by simp [Value.category]) (Nat.le_of_ble_eq_true rfl) (fun x ok hQ hN => ?_)
  show Z g x 2 0 [some (.ref m), some (.int q)] [] w 0 0
  have hm := hM.o
  have key : ∀ k, k = qK S q → Z g x 2 14 [some (.ref m), some (.int q)] [.int k, .ref m] w 0 0 := by
    intro k hk
    refine Z.callV (ci := 1) (q := (RX2, TX2, 15)) (C := RX2) ok (holds_ct hM k) (by first | assumption | exact ws_s | (rw [ws_n (by assumption)]; assumption)) rfl rfl q1508 q1510 (Or.inl qs7) q22 q1511 nk_X2_holds rfl (by decide) (by first | exact Nat.le_of_ble_eq_true rfl | simp [Value.category, cat_rf]) (Nat.le_refl _) (Nat.le_refl _) dX2_alerts_14 rfl ZX.no (fun v w1 hp => ?_)
    obtain ⟨rfl, hM1, hF1⟩ := hp
    have hm1 := hM1.o
    refine Z.if_eq (tgt := 29) ok dX2_alerts_17 (by decide) (fun hc => ?_) (fun hc => ?_)
    · have h0 : ¬ k = 0 := of_decide_eq_false (bI_0.mp hc)
      refine Z.iconst_0 ok dX2_alerts_29 ?_
      refine Z.iret ok hQ rfl dX2_alerts_30 ?_
      rw [← hk, if_neg h0]
      exact ⟨rfl, hM1, hF1⟩
    · have h0 : k = 0 := of_decide_eq_true (bI_n0.mp hc)
      have hq : isQ S q = true := by
        cases hb : isQ S q with
        | true => rfl
        | false => rw [qK, hb] at hk; rw [hk] at h0; exact absurd h0 (by decide)
      obtain ⟨i, hi, hi20, rfl, e, hd⟩ := isQ_le hI hq
      subst h0
      have h8 := hM1.a8
      refine Z.aload_n ok dX2_alerts_20 rfl (by first | exact isRf.r _ | exact isRf.n | exact isRf.v _ | assumption) ?_
      refine Z.get (ci := 1) (C := RX2) (T := TX2) (N := 15) ok (by first | assumption | exact ws_s | (rw [ws_n (by assumption)]; assumption)) rfl in_X2 8 (by decide) q1461 (Or.inl rfl) (by rfl) dX2_alerts_21 ?_
      refine Z.iload_n ok dX2_alerts_24 rfl ?_
      refine Z.ialdN ok h8 hi20 (by decide) dX2_alerts_25 ?_
      refine Z.goto (tgt := 30) ok dX2_alerts_26 (by decide) ?_
      refine Z.iret ok hQ rfl dX2_alerts_30 ?_
      rw [e]
      exact ⟨by rw [if_pos hk.symm], by rw [← hk]; exact hM1, hF1⟩
  refine Z.aload_n ok dX2_alerts_0 rfl (by first | exact isRf.r _ | exact isRf.n | exact isRf.v _ | assumption) ?_
  refine Z.aload_n ok dX2_alerts_1 rfl (by first | exact isRf.r _ | exact isRf.n | exact isRf.v _ | assumption) ?_
  refine Z.iload_n ok dX2_alerts_2 rfl ?_
  refine Z.callV (ci := 1) (q := (RX2, TX2, 15)) (C := RX2) ok (isQuestion_ct hM hI q) (by first | assumption | exact ws_s | (rw [ws_n (by assumption)]; assumption)) rfl rfl q1516 q1518 (Or.inl qs8) q22 q1519 nk_X2_isQuestion rfl (by decide) (by first | exact Nat.le_of_ble_eq_true rfl | simp [Value.category, cat_rf]) (Nat.le_refl _) (Nat.le_refl _) dX2_alerts_3 rfl ZX.no (fun v w1 hp => ?_)
  obtain ⟨rfl, rfl⟩ := hp
  unfold qK at key
  refine Z.if_eq (tgt := 13) ok dX2_alerts_6 (by decide) (fun hc => ?_) (fun hc => ?_)
  · rw [bI_0.mp hc] at key
    refine Z.iconst_1 ok dX2_alerts_13 ?_
    exact key 1 rfl
  · rw [bI_n0.mp hc] at key
    refine Z.iconst_0 ok dX2_alerts_9 ?_
    refine Z.goto (tgt := 14) ok dX2_alerts_10 (by decide) ?_
    exact key 0 rfl

theorem batchM_ct (hM : MR g w m ad S th) (hI : InvA S) (q : Int32) : Ct g yX2_batch cX2_batch 2 (some .int) 4 0 0 [.ref m, .int q] w (PM g w m ad (rI (if qK S q = 0 then S 9 (qN q) else 0)) S (qK S q)) noX := by
  refine Ct.of RX2 "batch" ⟨rfl, rfl⟩ (by decide +kernel) (by simp [Value.category]) (Nat.le_of_ble_eq_true rfl) (fun x ok hQ hN => ?_)
  show Z g x 2 0 [some (.ref m), some (.int q)] [] w 0 0
  have hm := hM.o
  have key : ∀ k, k = qK S q → Z g x 2 14 [some (.ref m), some (.int q)] [.int k, .ref m] w 0 0 := by
    intro k hk
    refine Z.callV (ci := 1) (q := (RX2, TX2, 15)) (C := RX2) ok (holds_ct hM k) (by first | assumption | exact ws_s | (rw [ws_n (by assumption)]; assumption)) rfl rfl q1508 q1510 (Or.inl qs7) q22 q1511 nk_X2_holds rfl (by decide) (by first | exact Nat.le_of_ble_eq_true rfl | simp [Value.category, cat_rf]) (Nat.le_refl _) (Nat.le_refl _) dX2_batch_14 rfl ZX.no (fun v w1 hp => ?_)
    obtain ⟨rfl, hM1, hF1⟩ := hp
    have hm1 := hM1.o
    refine Z.if_eq (tgt := 29) ok dX2_batch_17 (by decide) (fun hc => ?_) (fun hc => ?_)
    · have h0 : ¬ k = 0 := of_decide_eq_false (bI_0.mp hc)
      refine Z.iconst_0 ok dX2_batch_29 ?_
      refine Z.iret ok hQ rfl dX2_batch_30 ?_
      rw [← hk, if_neg h0]
      exact ⟨rfl, hM1, hF1⟩
    · have h0 : k = 0 := of_decide_eq_true (bI_n0.mp hc)
      have hq : isQ S q = true := by
        cases hb : isQ S q with
        | true => rfl
        | false => rw [qK, hb] at hk; rw [hk] at h0; exact absurd h0 (by decide)
      obtain ⟨i, hi, hi20, rfl, e, hd⟩ := isQ_le hI hq
      subst h0
      have h9 := hM1.a9
      refine Z.aload_n ok dX2_batch_20 rfl (by first | exact isRf.r _ | exact isRf.n | exact isRf.v _ | assumption) ?_
      refine Z.get (ci := 1) (C := RX2) (T := TX2) (N := 15) ok (by first | assumption | exact ws_s | (rw [ws_n (by assumption)]; assumption)) rfl in_X2 9 (by decide) q1462 (Or.inl rfl) (by rfl) dX2_batch_21 ?_
      refine Z.iload_n ok dX2_batch_24 rfl ?_
      refine Z.ialdN ok h9 hi20 (by decide) dX2_batch_25 ?_
      refine Z.goto (tgt := 30) ok dX2_batch_26 (by decide) ?_
      refine Z.iret ok hQ rfl dX2_batch_30 ?_
      rw [e]
      exact ⟨by rw [if_pos hk.symm], by rw [← hk]; exact hM1, hF1⟩
  refine Z.aload_n ok dX2_batch_0 rfl (by first | exact isRf.r _ | exact isRf.n | exact isRf.v _ | assumption) ?_
  refine Z.aload_n ok dX2_batch_1 rfl (by first | exact isRf.r _ | exact isRf.n | exact isRf.v _ | assumption) ?_
  refine Z.iload_n ok dX2_batch_2 rfl ?_
  refine Z.callV (ci := 1) (q := (RX2, TX2, 15)) (C := RX2) ok (isQuestion_ct hM hI q) (by first | assumption | exact ws_s | (rw [ws_n (by assumption)]; assumption)) rfl rfl q1516 q1518 (Or.inl qs8) q22 q1519 nk_X2_isQuestion rfl (by decide) (by first | exact Nat.le_of_ble_eq_true rfl | simp [Value.category, cat_rf]) (Nat.le_refl _) (Nat.le_refl _) dX2_batch_3 rfl ZX.no (fun v w1 hp => ?_)
  obtain ⟨rfl, rfl⟩ := hp
  unfold qK at key
  refine Z.if_eq (tgt := 13) ok dX2_batch_6 (by decide) (fun hc => ?_) (fun hc => ?_)
  · rw [bI_0.mp hc] at key
    refine Z.iconst_1 ok dX2_batch_13 ?_
    exact key 1 rfl
  · rw [bI_n0.mp hc] at key
    refine Z.iconst_0 ok dX2_batch_9 ?_
    refine Z.goto (tgt := 14) ok dX2_batch_10 (by decide) ?_
    exact key 0 rfl

theorem minuteM_ct (hM : MR g w m ad S th) : Ct g yX2_minute cX2_minute 1 (some .int) 4 0 0 [.ref m] w (PM g w m ad (rI (S 1 0)) S 0) noX := by
  refine Ct.of RX2 "minute" ⟨rfl, rfl⟩ (by decide +kernel) (by simp [Value.category]) (Nat.le_of_ble_eq_true rfl) (fun x ok hQ hN => ?_)
  show Z g x 1 0 [some (.ref m)] [] w 0 0
  have hm := hM.o
  refine Z.aload_n ok dX2_minute_0 rfl (by first | exact isRf.r _ | exact isRf.n | exact isRf.v _ | assumption) ?_
  refine Z.iconst_0 ok dX2_minute_1 ?_
  refine Z.put (ci := 1) (C := RX2) (T := TX2) (N := 15) (ty0 := tyX2) ok (by first | assumption | exact ws_s | (rw [ws_n (by assumption)]; assumption)) (by first | decide | assumption) rfl in_X2 tyX2_ok nmX2 0 (by decide) q1453 (Or.inl rfl) rfl (okV_i _) (by rfl) dX2_minute_2 ?_
  obtain ⟨hM1, hF1⟩ := hM.pth 0
  have hm := hM1.o
  refine Z.aload_n ok dX2_minute_5 rfl (by first | exact isRf.r _ | exact isRf.n | exact isRf.v _ | assumption) ?_
  refine Z.get (ci := 1) (C := RX2) (T := TX2) (N := 15) ok (by first | assumption | exact ws_s | (rw [ws_n (by assumption)]; assumption)) rfl in_X2 1 (by decide) q1454 (Or.inl rfl) (by rfl) dX2_minute_6 ?_
  refine Z.iret ok hQ rfl dX2_minute_9 ?_
  exact ⟨rfl, hM1, hF1⟩
theorem matchingM_ct (hM : MR g w m ad S th) (hI : InvA S) : Ct g yX2_matching cX2_matching 1 (some .int) 4 0 0 [.ref m] w (PM g w m ad (rI (foundS S (nq S))) S 0) noX := by
  refine Ct.of RX2 "matching" ⟨rfl, rfl⟩ (by decide +kernel) (by simp [Value.category]) (Nat.le_of_ble_eq_true rfl) (fun x ok hQ hN => ?_)
  show Z g x 1 0 [some (.ref m)] [] w 0 0
  have hm := hM.o
  refine Z.aload_n ok dX2_matching_0 rfl (by first | exact isRf.r _ | exact isRf.n | exact isRf.v _ | assumption) ?_
  refine Z.iconst_0 ok dX2_matching_1 ?_
  refine Z.put (ci := 1) (C := RX2) (T := TX2) (N := 15) (ty0 := tyX2) ok (by first | assumption | exact ws_s | (rw [ws_n (by assumption)]; assumption)) (by first | decide | assumption) rfl in_X2 tyX2_ok nmX2 0 (by decide) q1453 (Or.inl rfl) rfl (okV_i _) (by rfl) dX2_matching_2 ?_
  obtain ⟨hM1, hF1⟩ := hM.pth 0
  have hm := hM1.o
  refine Z.aload_n ok dX2_matching_5 rfl (by first | exact isRf.r _ | exact isRf.n | exact isRf.v _ | assumption) ?_
  refine Z.callV (ci := 1) (q := (RX2, TX2, 15)) (C := RX2) ok (found_ct hM1 hI) (by first | assumption | exact ws_s | (rw [ws_n (by assumption)]; assumption)) rfl rfl q1578 q1580 (Or.inl qs13) q22 q1581 nk_X2_found rfl (by decide) (by first | exact Nat.le_of_ble_eq_true rfl | simp [Value.category, cat_rf]) (Nat.le_refl _) (Nat.le_refl _) dX2_matching_6 rfl ZX.no (fun v w1 hp => ?_)
  obtain ⟨rfl, rfl⟩ := hp
  refine Z.iret ok hQ rfl dX2_matching_9 ?_
  exact ⟨rfl, hM1, hF1⟩
theorem matchingByIndexM_ct (hM : MR g w m ad S th) (hI : InvA S) : Ct g yX2_matchingByIndex cX2_matchingByIndex 1 (some .int) 4 0 0 [.ref m] w (PM g w m ad (rI (foundS S (nq S))) S 0) noX := by
  refine Ct.of RX2 "matchingByIndex" ⟨rfl, rfl⟩ (by decide +kernel) (by simp [Value.category]) (Nat.le_of_ble_eq_true rfl) (fun x ok hQ hN => ?_)
  show Z g x 1 0 [some (.ref m)] [] w 0 0
  have hm := hM.o
  refine Z.aload_n ok dX2_matchingByIndex_0 rfl (by first | exact isRf.r _ | exact isRf.n | exact isRf.v _ | assumption) ?_
  refine Z.iconst_0 ok dX2_matchingByIndex_1 ?_
  refine Z.put (ci := 1) (C := RX2) (T := TX2) (N := 15) (ty0 := tyX2) ok (by first | assumption | exact ws_s | (rw [ws_n (by assumption)]; assumption)) (by first | decide | assumption) rfl in_X2 tyX2_ok nmX2 0 (by decide) q1453 (Or.inl rfl) rfl (okV_i _) (by rfl) dX2_matchingByIndex_2 ?_
  obtain ⟨hM1, hF1⟩ := hM.pth 0
  have hm := hM1.o
  refine Z.aload_n ok dX2_matchingByIndex_5 rfl (by first | exact isRf.r _ | exact isRf.n | exact isRf.v _ | assumption) ?_
  refine Z.callV (ci := 1) (q := (RX2, TX2, 15)) (C := RX2) ok (found_ct hM1 hI) (by first | assumption | exact ws_s | (rw [ws_n (by assumption)]; assumption)) rfl rfl q1578 q1580 (Or.inl qs13) q22 q1581 nk_X2_found rfl (by decide) (by first | exact Nat.le_of_ble_eq_true rfl | simp [Value.category, cat_rf]) (Nat.le_refl _) (Nat.le_refl _) dX2_matchingByIndex_6 rfl ZX.no (fun v w1 hp => ?_)
  obtain ⟨rfl, rfl⟩ := hp
  refine Z.iret ok hQ rfl dX2_matchingByIndex_9 ?_
  exact ⟨rfl, hM1, hF1⟩
def questK (S : St) : Int32 := if S 2 0 = 20 then 1 else 0
theorem questionM_ct (hM : MR g w m ad S th) : Ct g yX2_question cX2_question 1 (some .int) 4 0 0 [.ref m] w (PM g w m ad (rI (if questK S = 0 then S 2 0 + 1 - 1 else 0)) (if questK S = 0 then up2 S 2 0 (S 2 0 + 1) else S) (questK S)) noX := by
  refine Ct.of RX2 "question" ⟨rfl, rfl⟩ (by decide +kernel) (by simp [Value.category]) (Nat.le_of_ble_eq_true rfl) (fun x ok hQ hN => ?_)
  show Z g x 1 0 [some (.ref m)] [] w 0 0
  have hm := hM.o
  have key : ∀ k, k = questK S → Z g x 1 15 [some (.ref m)] [.int k, .ref m] w 0 0 := by
    intro k hk
    refine Z.callV (ci := 1) (q := (RX2, TX2, 15)) (C := RX2) ok (holds_ct hM k) (by first | assumption | exact ws_s | (rw [ws_n (by assumption)]; assumption)) rfl rfl q1508 q1510 (Or.inl qs7) q22 q1511 nk_X2_holds rfl (by decide) (by first | exact Nat.le_of_ble_eq_true rfl | simp [Value.category, cat_rf]) (Nat.le_refl _) (Nat.le_refl _) dX2_question_15 rfl ZX.no (fun v w1 hp => ?_)
    obtain ⟨rfl, hM1, hF1⟩ := hp
    have hm1 := hM1.o
    refine Z.if_ne (tgt := 23) ok dX2_question_18 (by decide) (fun hc => ?_) (fun hc => ?_)
    · have h0 : k = 0 := of_decide_eq_true (bI_n0.mp hc)
      subst h0
      refine Z.aload_n ok dX2_question_23 rfl (by first | exact isRf.r _ | exact isRf.n | exact isRf.v _ | assumption) ?_
      refine Z.dup ok dX2_question_24 (by first | rfl | exact cat_rf _) ?_
      refine Z.get (ci := 1) (C := RX2) (T := TX2) (N := 15) ok (by first | assumption | exact ws_s | (rw [ws_n (by assumption)]; assumption)) rfl in_X2 2 (by decide) q1455 (Or.inl rfl) (by rfl) dX2_question_25 ?_
      refine Z.iconst_1 ok dX2_question_28 ?_
      refine Z.iadd ok dX2_question_29 ?_
      refine Z.put (ci := 1) (C := RX2) (T := TX2) (N := 15) (ty0 := tyX2) ok (by first | assumption | exact ws_s | (rw [ws_n (by assumption)]; assumption)) (by first | decide | assumption) rfl in_X2 tyX2_ok nmX2 2 (by decide) q1455 (Or.inl rfl) rfl (okV_i _) (by rfl) dX2_question_30 ?_
      obtain ⟨hM2, hF2⟩ := hM1.pq (S 2 0 + 1)
      have hm2 := hM2.o
      refine Z.aload_n ok dX2_question_33 rfl (by first | exact isRf.r _ | exact isRf.n | exact isRf.v _ | assumption) ?_
      refine Z.get (ci := 1) (C := RX2) (T := TX2) (N := 15) ok (by first | assumption | exact ws_s | (rw [ws_n (by assumption)]; assumption)) rfl in_X2 2 (by decide) q1455 (Or.inl rfl) (by rfl) dX2_question_34 ?_
      refine Z.iconst_1 ok dX2_question_37 ?_
      refine Z.isub ok dX2_question_38 ?_
      refine Z.iret ok hQ rfl dX2_question_39 ?_
      exact ⟨by rw [if_pos hk.symm]; rfl, by rw [if_pos hk.symm, ← hk]; exact hM2, hF1.tr hF2⟩
    · have h0 : ¬ k = 0 := of_decide_eq_false (bI_0.mp hc)
      refine Z.iconst_0 ok dX2_question_21 ?_
      refine Z.iret ok hQ rfl dX2_question_22 ?_
      rw [← hk, if_neg h0, if_neg h0]
      exact ⟨rfl, hM1, hF1⟩
  unfold questK at key
  refine Z.aload_n ok dX2_question_0 rfl (by first | exact isRf.r _ | exact isRf.n | exact isRf.v _ | assumption) ?_
  refine Z.aload_n ok dX2_question_1 rfl (by first | exact isRf.r _ | exact isRf.n | exact isRf.v _ | assumption) ?_
  refine Z.get (ci := 1) (C := RX2) (T := TX2) (N := 15) ok (by first | assumption | exact ws_s | (rw [ws_n (by assumption)]; assumption)) rfl in_X2 2 (by decide) q1455 (Or.inl rfl) (by rfl) dX2_question_2 ?_
  refine Z.bipush (v := 20) ok dX2_question_5 (by decide) ?_
  refine Z.icmp_ne (tgt := 14) ok dX2_question_7 (by decide) (fun hc => ?_) (fun hc => ?_)
  · rw [if_neg hc] at key
    refine Z.iconst_0 ok dX2_question_14 ?_
    exact key 0 rfl
  · rw [if_pos hc] at key
    refine Z.iconst_1 ok dX2_question_10 ?_
    refine Z.goto (tgt := 15) ok dX2_question_11 (by decide) ?_
    exact key 1 rfl
def prodK (S : St) (q : Int32) : Int32 := if isQ S q then (if S 5 (qN q) = 3 then 2 else 0) else 1
theorem prodK_0 {S : St} {q : Int32} (h : prodK S q = 0) : isQ S q = true ∧ ¬ S 5 (qN q) = 3 := by
  unfold prodK at h
  split at h
  · split at h
    · exact absurd h (by decide)
    · exact ⟨by assumption, by assumption⟩
  · exact absurd h (by decide)
theorem productM_ct (hM : MR g w m ad S th) (hI : InvA S) (q : Int32) : Ct g yX2_product cX2_product 3 (some .int) 4 0 0 [.ref m, .int q] w (PM g w m ad (rI (if prodK S q = 0 then S 5 (qN q) + 1 else 0)) (if prodK S q = 0 then up2 S 5 (qN q) (S 5 (qN q) + 1) else S) (prodK S q)) noX := by
  refine Ct.of RX2 "product" ⟨rfl, rfl⟩ (by decide +kernel) (by simp [Value.category]) (Nat.le_of_ble_eq_true rfl) (fun x ok hQ hN => ?_)
  show Z g x 3 0 [some (.ref m), some (.int q), none] [] w 0 0
  have hm := hM.o
  have key : ∀ k, k = prodK S q → Z g x 3 30 [some (.ref m), some (.int q), none] [.int k, .ref m] w 0 0 := by
    intro k hk
    refine Z.callV (ci := 1) (q := (RX2, TX2, 15)) (C := RX2) ok (holds_ct hM k) (by first | assumption | exact ws_s | (rw [ws_n (by assumption)]; assumption)) rfl rfl q1508 q1510 (Or.inl qs7) q22 q1511 nk_X2_holds rfl (by decide) (by first | exact Nat.le_of_ble_eq_true rfl | simp [Value.category, cat_rf]) (Nat.le_refl _) (Nat.le_refl _) dX2_product_30 rfl ZX.no (fun v w1 hp => ?_)
    obtain ⟨rfl, hM1, hF1⟩ := hp
    have hm1 := hM1.o
    refine Z.if_ne (tgt := 38) ok dX2_product_33 (by decide) (fun hc => ?_) (fun hc => ?_)
    · have h0 : k = 0 := of_decide_eq_true (bI_n0.mp hc)
      subst h0
      obtain ⟨i, hi, hi20, rfl, e, hd⟩ := isQ_le hI (prodK_0 hk.symm).1
      have h5 := hM1.a5
      refine Z.aload_n ok dX2_product_38 rfl (by first | exact isRf.r _ | exact isRf.n | exact isRf.v _ | assumption) ?_
      refine Z.get (ci := 1) (C := RX2) (T := TX2) (N := 15) ok (by first | assumption | exact ws_s | (rw [ws_n (by assumption)]; assumption)) rfl in_X2 5 (by decide) q1458 (Or.inl rfl) (by rfl) dX2_product_39 ?_
      refine Z.iload_n ok dX2_product_42 rfl ?_
      refine Z.dup2 ok dX2_product_43 (by first | rfl | exact cat_rf _) (by first | rfl | exact cat_rf _) ?_
      refine Z.ialdN ok h5 hi20 (by decide) dX2_product_44 ?_
      refine Z.iconst_1 ok dX2_product_45 ?_
      refine Z.iadd ok dX2_product_46 ?_
      refine Z.iastN ok h5 (by decide) hi20 (by decide) dX2_product_47 ?_
      obtain ⟨hM2, hF2⟩ := hM1.st 5 i (S 5 i + 1) (by decide) (by decide)
      generalize hw2 : wset w1 (ad 5) (eI g 20 (upd (S 5) i (S 5 i + 1))) 25 = w2
      have hM2 : MR g w2 m ad (up2 S 5 i (S 5 i + 1)) 0 := by rw [← hw2]; exact hM2
      have hF2 : FrM w1 w2 := by rw [← hw2]; exact hF2
      have hm := hM2.o
      have h5 := hM2.a5
      refine Z.aload_n ok dX2_product_48 rfl (by first | exact isRf.r _ | exact isRf.n | exact isRf.v _ | assumption) ?_
      refine Z.get (ci := 1) (C := RX2) (T := TX2) (N := 15) ok (by first | assumption | exact ws_s | (rw [ws_n (by assumption)]; assumption)) rfl in_X2 5 (by decide) q1458 (Or.inl rfl) (by rfl) dX2_product_49 ?_
      refine Z.iload_n ok dX2_product_52 rfl ?_
      refine Z.ialdN ok h5 hi20 (by decide) dX2_product_53 ?_
      refine Z.iret ok hQ rfl dX2_product_54 ?_
      exact ⟨by rw [if_pos hk.symm, e, up2_s], by rw [if_pos hk.symm, ← hk, e]; exact hM2, hF1.tr hF2⟩
    · have h0 : ¬ k = 0 := of_decide_eq_false (bI_0.mp hc)
      refine Z.iconst_0 ok dX2_product_36 ?_
      refine Z.iret ok hQ rfl dX2_product_37 ?_
      rw [← hk, if_neg h0, if_neg h0]
      exact ⟨rfl, hM1, hF1⟩
  refine Z.aload_n ok dX2_product_0 rfl (by first | exact isRf.r _ | exact isRf.n | exact isRf.v _ | assumption) ?_
  refine Z.iload_n ok dX2_product_1 rfl ?_
  refine Z.callV (ci := 1) (q := (RX2, TX2, 15)) (C := RX2) ok (isQuestion_ct hM hI q) (by first | assumption | exact ws_s | (rw [ws_n (by assumption)]; assumption)) rfl rfl q1516 q1518 (Or.inl qs8) q22 q1519 nk_X2_isQuestion rfl (by decide) (by first | exact Nat.le_of_ble_eq_true rfl | simp [Value.category, cat_rf]) (Nat.le_refl _) (Nat.le_refl _) dX2_product_2 rfl ZX.no (fun v w1 hp => ?_)
  obtain ⟨rfl, rfl⟩ := hp
  unfold prodK at key
  refine Z.istore_n (i := 2) ok dX2_product_5 rfl (by decide) ?_
  refine Z.aload_n ok dX2_product_6 rfl (by first | exact isRf.r _ | exact isRf.n | exact isRf.v _ | assumption) ?_
  refine Z.iload_n ok dX2_product_7 rfl ?_
  refine Z.if_ne (tgt := 15) ok dX2_product_8 (by decide) (fun hc => ?_) (fun hc => ?_)
  · have hq := bI_n0.mp hc
    rw [if_pos hq] at key
    obtain ⟨i, hi, hi20, rfl, e, hd⟩ := isQ_le hI hq
    rw [e] at key
    have h5 := hM.a5
    refine Z.aload_n ok dX2_product_15 rfl (by first | exact isRf.r _ | exact isRf.n | exact isRf.v _ | assumption) ?_
    refine Z.get (ci := 1) (C := RX2) (T := TX2) (N := 15) ok (by first | assumption | exact ws_s | (rw [ws_n (by assumption)]; assumption)) rfl in_X2 5 (by decide) q1458 (Or.inl rfl) (by rfl) dX2_product_16 ?_
    refine Z.iload_n ok dX2_product_19 rfl ?_
    refine Z.ialdN ok h5 hi20 (by decide) dX2_product_20 ?_
    refine Z.iconst_3 ok dX2_product_21 ?_
    refine Z.icmp_ne (tgt := 29) ok dX2_product_22 (by decide) (fun hd2 => ?_) (fun hd2 => ?_)
    · rw [if_neg hd2] at key
      refine Z.iconst_0 ok dX2_product_29 ?_
      exact Z.fg (by simp [fgt]) (key 0 rfl)
    · rw [if_pos hd2] at key
      refine Z.iconst_2 ok dX2_product_25 ?_
      refine Z.goto (tgt := 30) ok dX2_product_26 (by decide) ?_
      exact Z.fg (by simp [fgt]) (key 2 rfl)
  · rw [bI_0.mp hc] at key
    refine Z.iconst_1 ok dX2_product_11 ?_
    refine Z.goto (tgt := 30) ok dX2_product_12 (by decide) ?_
    exact Z.fg (by simp [fgt]) (key 1 rfl)
def quietK (S : St) (q mi : Int32) : Int32 := if isQ S q then (if inB mi 0 1000 then 0 else 2) else 1
theorem quietK_0 {S : St} {q mi : Int32} (h : quietK S q mi = 0) : isQ S q = true ∧ inB mi 0 1000 = true := by
  unfold quietK at h
  split at h
  · split at h
    · exact ⟨by assumption, by assumption⟩
    · exact absurd h (by decide)
  · exact absurd h (by decide)
theorem setQuietM_ct (hM : MR g w m ad S th) (hI : InvA S) (q mi : Int32) : Ct g yX2_setQuiet cX2_setQuiet 5 (some .int) 4 0 0 [.ref m, .int q, .int mi] w (PM g w m ad (rI (if quietK S q mi = 0 then S 6 (qN q) else 0)) (if quietK S q mi = 0 then up2 S 6 (qN q) mi else S) (quietK S q mi)) noX := by
  refine Ct.of RX2 "setQuiet" ⟨rfl, rfl⟩ (by decide +kernel) (by simp [Value.category]) (Nat.le_of_ble_eq_true rfl) (fun x ok hQ hN => ?_)
  show Z g x 5 0 [some (.ref m), some (.int q), some (.int mi), none, none] [] w 0 0
  have hm := hM.o
  have key : ∀ k, k = quietK S q mi → Z g x 5 31 [some (.ref m), some (.int q), some (.int mi), none, none] [.int k, .ref m] w 0 0 := by
    intro k hk
    refine Z.callV (ci := 1) (q := (RX2, TX2, 15)) (C := RX2) ok (holds_ct hM k) (by first | assumption | exact ws_s | (rw [ws_n (by assumption)]; assumption)) rfl rfl q1508 q1510 (Or.inl qs7) q22 q1511 nk_X2_holds rfl (by decide) (by first | exact Nat.le_of_ble_eq_true rfl | simp [Value.category, cat_rf]) (Nat.le_refl _) (Nat.le_refl _) dX2_setQuiet_31 rfl ZX.no (fun v w1 hp => ?_)
    obtain ⟨rfl, hM1, hF1⟩ := hp
    have hm1 := hM1.o
    refine Z.if_ne (tgt := 39) ok dX2_setQuiet_34 (by decide) (fun hc => ?_) (fun hc => ?_)
    · have h0 : k = 0 := of_decide_eq_true (bI_n0.mp hc)
      subst h0
      obtain ⟨i, hi, hi20, rfl, e, hd⟩ := isQ_le hI (quietK_0 hk.symm).1
      have h6 := hM1.a6
      refine Z.aload_n ok dX2_setQuiet_39 rfl (by first | exact isRf.r _ | exact isRf.n | exact isRf.v _ | assumption) ?_
      refine Z.get (ci := 1) (C := RX2) (T := TX2) (N := 15) ok (by first | assumption | exact ws_s | (rw [ws_n (by assumption)]; assumption)) rfl in_X2 6 (by decide) q1459 (Or.inl rfl) (by rfl) dX2_setQuiet_40 ?_
      refine Z.iload_n ok dX2_setQuiet_43 rfl ?_
      refine Z.ialdN ok h6 hi20 (by decide) dX2_setQuiet_44 ?_
      refine Z.istore ok dX2_setQuiet_45 (by decide) ?_
      refine Z.aload_n ok dX2_setQuiet_47 rfl (by first | exact isRf.r _ | exact isRf.n | exact isRf.v _ | assumption) ?_
      refine Z.get (ci := 1) (C := RX2) (T := TX2) (N := 15) ok (by first | assumption | exact ws_s | (rw [ws_n (by assumption)]; assumption)) rfl in_X2 6 (by decide) q1459 (Or.inl rfl) (by rfl) dX2_setQuiet_48 ?_
      refine Z.iload_n ok dX2_setQuiet_51 rfl ?_
      refine Z.iload_n ok dX2_setQuiet_52 rfl ?_
      refine Z.iastN ok h6 (by decide) hi20 (by decide) dX2_setQuiet_53 ?_
      obtain ⟨hM2, hF2⟩ := hM1.st 6 i mi (by decide) (by decide)
      refine Z.iload ok dX2_setQuiet_54 rfl ?_
      refine Z.iret ok hQ rfl dX2_setQuiet_56 ?_
      exact ⟨by rw [if_pos hk.symm, e], by rw [if_pos hk.symm, ← hk, e]; exact hM2, hF1.tr hF2⟩
    · have h0 : ¬ k = 0 := of_decide_eq_false (bI_0.mp hc)
      refine Z.iconst_0 ok dX2_setQuiet_37 ?_
      refine Z.iret ok hQ rfl dX2_setQuiet_38 ?_
      rw [← hk, if_neg h0, if_neg h0]
      exact ⟨rfl, hM1, hF1⟩
  refine Z.aload_n ok dX2_setQuiet_0 rfl (by first | exact isRf.r _ | exact isRf.n | exact isRf.v _ | assumption) ?_
  refine Z.iload_n ok dX2_setQuiet_1 rfl ?_
  refine Z.callV (ci := 1) (q := (RX2, TX2, 15)) (C := RX2) ok (isQuestion_ct hM hI q) (by first | assumption | exact ws_s | (rw [ws_n (by assumption)]; assumption)) rfl rfl q1516 q1518 (Or.inl qs8) q22 q1519 nk_X2_isQuestion rfl (by decide) (by first | exact Nat.le_of_ble_eq_true rfl | simp [Value.category, cat_rf]) (Nat.le_refl _) (Nat.le_refl _) dX2_setQuiet_2 rfl ZX.no (fun v w1 hp => ?_)
  obtain ⟨rfl, rfl⟩ := hp
  unfold quietK at key
  refine Z.istore_n (i := 3) ok dX2_setQuiet_5 rfl (by decide) ?_
  refine Z.aload_n ok dX2_setQuiet_6 rfl (by first | exact isRf.r _ | exact isRf.n | exact isRf.v _ | assumption) ?_
  refine Z.iload_n ok dX2_setQuiet_7 rfl ?_
  refine Z.if_ne (tgt := 15) ok dX2_setQuiet_8 (by decide) (fun hc => ?_) (fun hc => ?_)
  · rw [if_pos (bI_n0.mp hc)] at key
    refine Z.iload_n ok dX2_setQuiet_15 rfl ?_
    refine Z.iconst_0 ok dX2_setQuiet_16 ?_
    refine Z.sipush (v := 1000) ok dX2_setQuiet_17 (by decide) ?_
    refine Z.callS ok (isInM_ct mi 0 1000) q1520 q1521 q22 q1522 nk_X2_isIn rfl (by decide) (by first | exact Nat.le_of_ble_eq_true rfl | simp [Value.category, cat_rf]) (Nat.le_refl _) (Nat.le_refl _) dX2_setQuiet_20 rfl ZX.no (fun v w1 hp => ?_)
    obtain ⟨rfl, rfl⟩ := hp
    refine Z.if_eq (tgt := 30) ok dX2_setQuiet_23 (by decide) (fun hd => ?_) (fun hd => ?_)
    · rw [bI_0.mp hd] at key
      refine Z.iconst_2 ok dX2_setQuiet_30 ?_
      exact Z.fg (by simp [fgt]) (key 2 rfl)
    · rw [bI_n0.mp hd] at key
      refine Z.iconst_0 ok dX2_setQuiet_26 ?_
      refine Z.goto (tgt := 31) ok dX2_setQuiet_27 (by decide) ?_
      exact Z.fg (by simp [fgt]) (key 0 rfl)
  · rw [bI_0.mp hc] at key
    refine Z.iconst_1 ok dX2_setQuiet_11 ?_
    refine Z.goto (tgt := 31) ok dX2_setQuiet_12 (by decide) ?_
    exact Z.fg (by simp [fgt]) (key 1 rfl)
def setK (nm v : Int32) : Int32 := if inB nm 0 5 then (if inB v (-1) 63 then 0 else 2) else 1
theorem setK_0 {nm v : Int32} (h : setK nm v = 0) : inB nm 0 5 = true ∧ inB v (-1) 63 = true := by
  unfold setK at h
  split at h
  · split at h
    · exact ⟨by assumption, by assumption⟩
    · exact absurd h (by decide)
  · exact absurd h (by decide)
theorem inB_nI {v : Int32} {n : Nat} (hn : n < 2 ^ 30) (h : inB v 0 (nI n) = true) : ∃ i, i ≤ n ∧ v = nI i ∧ qN v = i := by
  obtain ⟨a, b⟩ := inB_t.mp h
  rw [← nI_pred] at b
  obtain ⟨i, hi, e⟩ := nI_of_range (by omega) a b
  exact ⟨i, by omega, e, by rw [e]; exact nI_clamp (by omega)⟩
theorem setM_ct (hM : MR g w m ad S th) (nm v : Int32) : Ct g yX2_set cX2_set 4 (some .int) 4 0 0 [.ref m, .int nm, .int v] w (PM g w m ad (rI (if setK nm v = 0 then S 3 (qN nm) else 0)) (if setK nm v = 0 then up2 S 3 (qN nm) v else S) (setK nm v)) noX := by
  refine Ct.of RX2 "set" ⟨rfl, rfl⟩ (by decide +kernel) (by simp [Value.category]) (Nat.le_of_ble_eq_true rfl) (fun x ok hQ hN => ?_)
  show Z g x 4 0 [some (.ref m), some (.int nm), some (.int v), none] [] w 0 0
  have hm := hM.o
  have key : ∀ k, k = setK nm v → Z g x 4 27 [some (.ref m), some (.int nm), some (.int v), none] [.int k, .ref m] w 0 0 := by
    intro k hk
    refine Z.callV (ci := 1) (q := (RX2, TX2, 15)) (C := RX2) ok (holds_ct hM k) (by first | assumption | exact ws_s | (rw [ws_n (by assumption)]; assumption)) rfl rfl q1508 q1510 (Or.inl qs7) q22 q1511 nk_X2_holds rfl (by decide) (by first | exact Nat.le_of_ble_eq_true rfl | simp [Value.category, cat_rf]) (Nat.le_refl _) (Nat.le_refl _) dX2_set_27 rfl ZX.no (fun v0 w1 hp => ?_)
    obtain ⟨rfl, hM1, hF1⟩ := hp
    have hm1 := hM1.o
    refine Z.if_ne (tgt := 35) ok dX2_set_30 (by decide) (fun hc => ?_) (fun hc => ?_)
    · have h0 : k = 0 := of_decide_eq_true (bI_n0.mp hc)
      subst h0
      obtain ⟨i, hi, rfl, e⟩ := inB_nI (n := 5) (by decide) (setK_0 hk.symm).1
      have h3 := hM1.a3
      refine Z.aload_n ok dX2_set_35 rfl (by first | exact isRf.r _ | exact isRf.n | exact isRf.v _ | assumption) ?_
      refine Z.get (ci := 1) (C := RX2) (T := TX2) (N := 15) ok (by first | assumption | exact ws_s | (rw [ws_n (by assumption)]; assumption)) rfl in_X2 3 (by decide) q1456 (Or.inl rfl) (by rfl) dX2_set_36 ?_
      refine Z.iload_n ok dX2_set_39 rfl ?_
      refine Z.ialdN ok h3 (by omega) (by decide) dX2_set_40 ?_
      refine Z.istore_n (i := 3) ok dX2_set_41 rfl (by decide) ?_
      refine Z.aload_n ok dX2_set_42 rfl (by first | exact isRf.r _ | exact isRf.n | exact isRf.v _ | assumption) ?_
      refine Z.get (ci := 1) (C := RX2) (T := TX2) (N := 15) ok (by first | assumption | exact ws_s | (rw [ws_n (by assumption)]; assumption)) rfl in_X2 3 (by decide) q1456 (Or.inl rfl) (by rfl) dX2_set_43 ?_
      refine Z.iload_n ok dX2_set_46 rfl ?_
      refine Z.iload_n ok dX2_set_47 rfl ?_
      refine Z.iastN ok h3 (by decide) (by omega) (by decide) dX2_set_48 ?_
      obtain ⟨hM2, hF2⟩ := hM1.st 3 i v (by decide) (by decide)
      refine Z.iload_n ok dX2_set_49 rfl ?_
      refine Z.iret ok hQ rfl dX2_set_50 ?_
      exact ⟨by rw [if_pos hk.symm, e], by rw [if_pos hk.symm, ← hk, e]; exact hM2, hF1.tr hF2⟩
    · have h0 : ¬ k = 0 := of_decide_eq_false (bI_0.mp hc)
      refine Z.iconst_0 ok dX2_set_33 ?_
      refine Z.iret ok hQ rfl dX2_set_34 ?_
      rw [← hk, if_neg h0, if_neg h0]
      exact ⟨rfl, hM1, hF1⟩
  refine Z.aload_n ok dX2_set_0 rfl (by first | exact isRf.r _ | exact isRf.n | exact isRf.v _ | assumption) ?_
  refine Z.iload_n ok dX2_set_1 rfl ?_
  refine Z.callS ok (isName_ct nm) q1527 q1528 q22 q1529 nk_X2_isName rfl (by decide) (by first | exact Nat.le_of_ble_eq_true rfl | simp [Value.category, cat_rf]) (Nat.le_refl _) (Nat.le_refl _) dX2_set_2 rfl ZX.no (fun v0 w1 hp => ?_)
  obtain ⟨rfl, rfl⟩ := hp
  unfold setK at key
  refine Z.if_ne (tgt := 12) ok dX2_set_5 (by decide) (fun hc => ?_) (fun hc => ?_)
  · rw [if_pos (bI_n0.mp hc)] at key
    refine Z.iload_n ok dX2_set_12 rfl ?_
    refine Z.iconst_m1 ok dX2_set_13 ?_
    refine Z.bipush (v := 63) ok dX2_set_14 (by decide) ?_
    refine Z.callS ok (isInM_ct v (-1) 63) q1520 q1521 q22 q1522 nk_X2_isIn rfl (by decide) (by first | exact Nat.le_of_ble_eq_true rfl | simp [Value.category, cat_rf]) (Nat.le_refl _) (Nat.le_refl _) dX2_set_16 rfl ZX.no (fun v0 w1 hp => ?_)
    obtain ⟨rfl, rfl⟩ := hp
    refine Z.if_eq (tgt := 26) ok dX2_set_19 (by decide) (fun hd => ?_) (fun hd => ?_)
    · rw [bI_0.mp hd] at key
      refine Z.iconst_2 ok dX2_set_26 ?_
      exact key 2 rfl
    · rw [bI_n0.mp hd] at key
      refine Z.iconst_0 ok dX2_set_22 ?_
      refine Z.goto (tgt := 27) ok dX2_set_23 (by decide) ?_
      exact key 0 rfl
  · rw [bI_0.mp hc] at key
    refine Z.iconst_1 ok dX2_set_8 ?_
    refine Z.goto (tgt := 27) ok dX2_set_9 (by decide) ?_
    exact key 1 rfl
end MODEL5
