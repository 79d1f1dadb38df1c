/-! ===== THE REFERENCE: what changes it, and the rest ===== -/
section MODEL4
variable {g : Gx} {w : Wd} {m : Nat} {ad : Nat → Nat} {S : St} {th : Int32} {x : Cx}
theorem come_lp (ok : OK g x RX2 cX2_come 3 4 (some .int)) {w0 : Wd} (hI : InvA S) (kk : ∀ w, MR g w m ad (comeS S (nq S)).1 0 → FrM w0 w → Z g x 3 71 [some (.ref m), some (.int (comeS S (nq S)).2), some (.int (nI (nq S)))] [] w 0 0) : ∀ d q, q + d = nq S → ∀ w, MR g w m ad (comeS S q).1 0 → FrM w0 w → Z g x 3 9 [some (.ref m), some (.int (comeS S q).2), some (.int (nI q))] [] w 0 0 := by
  have hn := hI.1.2
  intro d
  induction d with
  | zero =>
    intro q hq w hM hF
    have hm := hM.o
    have hA := (comeS_same q).inv hI
    have hnq := (comeS_same (S := S) q).nq
    refine Z.iload_n ok dX2_come_9 rfl ?_
    refine Z.aload_n ok dX2_come_10 rfl (by first | exact isRf.r _ | exact isRf.n | exact isRf.v _ | assumption) ?_
    refine Z.get (ci := 1) (C := RX2) (T := TX2) (N := 15) ok (by first | assumption | exact ws_s | (rw [ws_n (by assumption)]; assumption)) rfl in_X2 2 (by decide) q1455 (Or.inl rfl) (by rfl) dX2_come_11 ?_
    rw [hA.1.1, hnq]
    refine Z.icmp_ge (tgt := 71) ok dX2_come_14 (by decide) (fun _ => ?_) (fun hc => absurd (nI_le (by omega) (by omega)) hc)
    rw [show q = nq S by omega] at hM ⊢
    exact kk w hM hF
  | succ d ih =>
    intro q hq w hM hF
    have hA := (comeS_same q).inv hI
    have hnq := (comeS_same (S := S) q).nq
    have hs : comeS S (q + 1) = (if actB (comeS S q).1 q = true then (if (comeS S q).1 1 0 < (comeS S q).1 7 q then (up2 (comeS S q).1 9 q ((comeS S q).1 9 q + 1), (comeS S q).2) else (raisesS (comeS S q).1 q, (comeS S q).2 ||| bitN q)) else comeS S q) := rfl
    generalize comeS S q = r at hM hA hnq hs ⊢
    have hm := hM.o
    have h9 := hM.a9
    have key : ∀ w' r', comeS S (q + 1) = r' → MR g w' m ad r'.1 0 → FrM w0 w' → Z g x 3 65 [some (.ref m), some (.int r'.2), some (.int (nI q))] [] w' 0 0 := by
      intro w' r' e hM' hF'
      refine Z.iinc ok dX2_come_65 rfl rfl ?_
      refine Z.goto (tgt := 9) ok dX2_come_68 (by decide) ?_
      simp only [m3, m4, nI_add, nI_1, i1, List.set_cons_zero, List.set_cons_succ]
      rw [← e] at hM' ⊢
      exact ih (q + 1) (by omega) w' hM' hF'
    refine Z.iload_n ok dX2_come_9 rfl ?_
    refine Z.aload_n ok dX2_come_10 rfl (by first | exact isRf.r _ | exact isRf.n | exact isRf.v _ | assumption) ?_
    refine Z.get (ci := 1) (C := RX2) (T := TX2) (N := 15) ok (by first | assumption | exact ws_s | (rw [ws_n (by assumption)]; assumption)) rfl in_X2 2 (by decide) q1455 (Or.inl rfl) (by rfl) dX2_come_11 ?_
    rw [hA.1.1, hnq]
    refine Z.icmp_ge (tgt := 71) ok dX2_come_14 (by decide) (fun hc => absurd hc (nI_ge (by omega) (by omega))) (fun _ => ?_)
    refine Z.aload_n ok dX2_come_17 rfl (by first | exact isRf.r _ | exact isRf.n | exact isRf.v _ | assumption) ?_
    refine Z.iload_n ok dX2_come_18 rfl ?_
    refine Z.callV (ci := 1) (q := (RX2, TX2, 15)) (C := RX2) ok (isQuestion_ct hM hA (nI q)) (by first | assumption | exact ws_s | (rw [ws_n (by assumption)]; assumption)) rfl rfl q1516 q1518 (Or.inl qs8) q22 q1519 nk_X2_isQuestion rfl (by decide) (by first | exact Nat.le_of_ble_eq_true rfl | simp [Value.category, cat_rf]) (Nat.le_refl _) (Nat.le_refl _) dX2_come_19 rfl ZX.no (fun v w1 hp => ?_)
    obtain ⟨rfl, rfl⟩ := hp
    rw [isQ_nI hA (by omega)]
    unfold actB at hs
    refine Z.if_eq (tgt := 65) ok dX2_come_22 (by decide) (fun hc => ?_) (fun hc => ?_)
    · rw [bI_0.mp hc, Bool.false_and, if_neg (by decide)] at hs
      exact key w r hs hM hF
    · rw [bI_n0.mp hc, Bool.true_and] at hs
      refine Z.aload_n ok dX2_come_25 rfl (by first | exact isRf.r _ | exact isRf.n | exact isRf.v _ | assumption) ?_
      refine Z.iload_n ok dX2_come_26 rfl ?_
      refine Z.callV (ci := 1) (q := (RX2, TX2, 15)) (C := RX2) ok (does_ct hM hA (q := q) (by omega)) (by first | assumption | exact ws_s | (rw [ws_n (by assumption)]; assumption)) rfl rfl q1549 q1551 (Or.inl qs9) q22 q1552 nk_X2_does rfl (by decide) (by first | exact Nat.le_of_ble_eq_true rfl | simp [Value.category, cat_rf]) (Nat.le_refl _) (Nat.le_refl _) dX2_come_27 rfl ZX.no (fun v w1 hp => ?_)
      obtain ⟨rfl, rfl⟩ := hp
      refine Z.if_eq (tgt := 65) ok dX2_come_30 (by decide) (fun hd => ?_) (fun hd => ?_)
      · rw [bI_0.mp hd, if_neg (by decide)] at hs
        exact key w r hs hM hF
      · rw [bI_n0.mp hd, if_pos rfl] at hs
        refine Z.aload_n ok dX2_come_33 rfl (by first | exact isRf.r _ | exact isRf.n | exact isRf.v _ | assumption) ?_
        refine Z.iload_n ok dX2_come_34 rfl ?_
        refine Z.callV (ci := 1) (q := (RX2, TX2, 15)) (C := RX2) ok (quietNow_ct hM (q := q) (by omega)) (by first | assumption | exact ws_s | (rw [ws_n (by assumption)]; assumption)) rfl rfl q1557 q1559 (Or.inl qs11) q22 q1560 nk_X2_quietNow rfl (by decide) (by first | exact Nat.le_of_ble_eq_true rfl | simp [Value.category, cat_rf]) (Nat.le_refl _) (Nat.le_refl _) dX2_come_35 rfl ZX.no (fun v w1 hp => ?_)
        obtain ⟨rfl, rfl⟩ := hp
        refine Z.if_eq (tgt := 54) ok dX2_come_38 (by decide) (fun he => ?_) (fun he => ?_)
        · rw [if_neg (of_decide_eq_false (bI_0.mp he))] at hs
          refine Z.aload_n ok dX2_come_54 rfl (by first | exact isRf.r _ | exact isRf.n | exact isRf.v _ | assumption) ?_
          refine Z.iload_n ok dX2_come_55 rfl ?_
          refine Z.callV (ci := 1) (q := (RX2, TX2, 15)) (C := RX2) ok (raises_ct hM (q := q) (by omega)) (by first | assumption | exact ws_s | (rw [ws_n (by assumption)]; assumption)) rfl rfl q1561 q1563 (Or.inl qs12) q22 q1564 nk_X2_raises rfl (by decide) (by first | exact Nat.le_of_ble_eq_true rfl | simp [Value.category, cat_rf]) (Nat.le_refl _) (Nat.le_refl _) dX2_come_56 rfl ZX.no (fun v w1 hp => ?_)
          obtain ⟨rfl, hM1, hF1⟩ := hp
          refine Z.iload_n ok dX2_come_59 rfl ?_
          refine Z.iconst_1 ok dX2_come_60 ?_
          refine Z.iload_n ok dX2_come_61 rfl ?_
          refine Z.ishl ok dX2_come_62 rfl ?_
          refine Z.ior ok dX2_come_63 ?_
          refine Z.istore_n (i := 1) ok dX2_come_64 rfl (by decide) ?_
          exact key w1 _ hs hM1 (hF.tr hF1)
        · rw [if_pos (of_decide_eq_true (bI_n0.mp he))] at hs
          refine Z.aload_n ok dX2_come_41 rfl (by first | exact isRf.r _ | exact isRf.n | exact isRf.v _ | assumption) ?_
          refine Z.get (ci := 1) (C := RX2) (T := TX2) (N := 15) ok (by first | assumption | exact ws_s | (rw [ws_n (by assumption)]; assumption)) rfl in_X2 9 (by decide) q1462 (Or.inl rfl) (by rfl) dX2_come_42 ?_
          refine Z.iload_n ok dX2_come_45 rfl ?_
          refine Z.dup2 ok dX2_come_46 (by first | rfl | exact cat_rf _) (by first | rfl | exact cat_rf _) ?_
          refine Z.ialdN ok h9 (by omega) (by decide) dX2_come_47 ?_
          refine Z.iconst_1 ok dX2_come_48 ?_
          refine Z.iadd ok dX2_come_49 ?_
          refine Z.iastN ok h9 (by decide) (by omega) (by decide) dX2_come_50 ?_
          obtain ⟨hM1, hF1⟩ := hM.st 9 q (r.1 9 q + 1) (by decide) (by decide)
          refine Z.goto (tgt := 65) ok dX2_come_51 (by decide) ?_
          exact key _ (up2 r.1 9 q (r.1 9 q + 1), r.2) hs hM1 (hF.tr hF1)
theorem comeM_ct (hM : MR g w m ad S th) (hI : InvA S) : Ct g yX2_come cX2_come 3 (some .int) 4 0 0 [.ref m] w (PM g w m ad (rI (comeS S (nq S)).2) (comeS S (nq S)).1 0) noX := by
  refine Ct.of RX2 "come" ⟨rfl, rfl⟩ (by decide +kernel) (by simp [Value.category]) (Nat.le_of_ble_eq_true rfl) (fun x ok hQ hN => ?_)
  show Z g x 3 0 [some (.ref m), none, none] [] w 0 0
  have hm := hM.o
  refine Z.aload_n ok dX2_come_0 rfl (by first | exact isRf.r _ | exact isRf.n | exact isRf.v _ | assumption) ?_
  refine Z.iconst_0 ok dX2_come_1 ?_
  refine Z.put (ci := 1) (C := RX2) (T := TX2) (N := 15) (ty0 := tyX2) ok (by first | assumption | exact ws_s | (rw [ws_n (by assumption)]; assumption)) (by first | decide | assumption) rfl in_X2 tyX2_ok nmX2 0 (by decide) q1453 (Or.inl rfl) rfl (okV_i _) (by rfl) dX2_come_2 ?_
  obtain ⟨hM1, hF1⟩ := hM.pth 0
  refine Z.iconst_0 ok dX2_come_5 ?_
  refine Z.istore_n (i := 1) ok dX2_come_6 rfl (by decide) ?_
  refine Z.iconst_0 ok dX2_come_7 ?_
  refine Z.istore_n (i := 2) ok dX2_come_8 rfl (by decide) ?_
  simp only [m3, m4, nI_add, nI_1, i1, List.set_cons_zero, List.set_cons_succ]
  refine come_lp (w0 := w) ok hI ?_ (nq S) 0 (by omega) _ hM1 hF1
  intro w2 hM2 hF2
  refine Z.iload_n ok dX2_come_71 rfl ?_
  refine Z.iret ok hQ rfl dX2_come_72 ?_
  exact ⟨rfl, hM2, hF2⟩
theorem tick_lp (ok : OK g x RX2 cX2_advance 5 4 (some .int)) {w0 : Wd} {S : St} {a3 : Int32} {mi k : Int32} (hI : InvA S) (kk : ∀ w, MR g w m ad (tickS S a3 (nq S)).1 0 → FrM w0 w → Z g x 5 127 [some (.ref m), some (.int mi), some (.int (tickS S a3 (nq S)).2), some (.int k), some (.int (nI (nq S)))] [] w 0 0) : ∀ d q, q + d = nq S → ∀ w, MR g w m ad (tickS S a3 q).1 0 → FrM w0 w → Z g x 5 62 [some (.ref m), some (.int mi), some (.int (tickS S a3 q).2), some (.int k), some (.int (nI q))] [] w 0 0 := by
  have hn := hI.1.2
  intro d
  induction d with
  | zero =>
    intro q hq w hM hF
    have hm := hM.o
    have hA := (tickS_same (n := a3) q).inv hI
    have hnq := (tickS_same (S := S) (n := a3) q).nq
    refine Z.iload ok dX2_advance_62 rfl ?_
    refine Z.aload_n ok dX2_advance_64 rfl (by first | exact isRf.r _ | exact isRf.n | exact isRf.v _ | assumption) ?_
    refine Z.get (ci := 1) (C := RX2) (T := TX2) (N := 15) ok (by first | assumption | exact ws_s | (rw [ws_n (by assumption)]; assumption)) rfl in_X2 2 (by decide) q1455 (Or.inl rfl) (by rfl) dX2_advance_65 ?_
    rw [hA.1.1, hnq]
    refine Z.icmp_ge (tgt := 127) ok dX2_advance_68 (by decide) (fun _ => ?_) (fun hc => absurd (nI_le (by omega) (by omega)) hc)
    rw [show q = nq S by omega] at hM ⊢
    exact kk w hM hF
  | succ d ih =>
    intro q hq w hM hF
    have hA := (tickS_same (n := a3) q).inv hI
    have hnq := (tickS_same (S := S) (n := a3) q).nq
    have h4 : (tickS S a3 q).1 4 = S 4 := (tickS_same (S := S) (n := a3) q).2.2.1
    have hs : tickS S a3 (q + 1) = (if S 4 q = 0 ∧ (tickS S a3 q).1 1 0 = (tickS S a3 q).1 7 q ∧ 0 < (tickS S a3 q).1 9 q then (raisesS (up2 (tickS S a3 q).1 9 q 0) q, (tickS S a3 q).2 + 1) else tickS S a3 q) := rfl
    generalize tickS S a3 q = r at hM hA hnq hs h4 ⊢
    have hm := hM.o
    have h7 := hM.a7
    have h9 := hM.a9
    have key : ∀ w' r', tickS S a3 (q + 1) = r' → MR g w' m ad r'.1 0 → FrM w0 w' → Z g x 5 121 [some (.ref m), some (.int mi), some (.int r'.2), some (.int k), some (.int (nI q))] [] w' 0 0 := by
      intro w' r' e hM' hF'
      refine Z.iinc ok dX2_advance_121 rfl rfl ?_
      refine Z.goto (tgt := 62) ok dX2_advance_124 (by decide) ?_
      simp only [m3, m4, nI_add, nI_1, i1, List.set_cons_zero, List.set_cons_succ]
      rw [← e] at hM' ⊢
      exact ih (q + 1) (by omega) w' hM' hF'
    refine Z.iload ok dX2_advance_62 rfl ?_
    refine Z.aload_n ok dX2_advance_64 rfl (by first | exact isRf.r _ | exact isRf.n | exact isRf.v _ | assumption) ?_
    refine Z.get (ci := 1) (C := RX2) (T := TX2) (N := 15) ok (by first | assumption | exact ws_s | (rw [ws_n (by assumption)]; assumption)) rfl in_X2 2 (by decide) q1455 (Or.inl rfl) (by rfl) dX2_advance_65 ?_
    rw [hA.1.1, hnq]
    refine Z.icmp_ge (tgt := 127) ok dX2_advance_68 (by decide) (fun hc => absurd hc (nI_ge (by omega) (by omega))) (fun _ => ?_)
    refine Z.aload_n ok dX2_advance_71 rfl (by first | exact isRf.r _ | exact isRf.n | exact isRf.v _ | assumption) ?_
    refine Z.iload ok dX2_advance_72 rfl ?_
    refine Z.callV (ci := 1) (q := (RX2, TX2, 15)) (C := RX2) ok (isQuestion_ct hM hA (nI q)) (by first | assumption | exact ws_s | (rw [ws_n (by assumption)]; assumption)) rfl rfl q1516 q1518 (Or.inl qs8) q22 q1519 nk_X2_isQuestion rfl (by decide) (by first | exact Nat.le_of_ble_eq_true rfl | simp [Value.category, cat_rf]) (Nat.le_refl _) (Nat.le_refl _) dX2_advance_74 rfl ZX.no (fun v w1 hp => ?_)
    obtain ⟨rfl, rfl⟩ := hp
    rw [isQ_nI hA (by omega), h4]
    refine Z.if_eq (tgt := 121) ok dX2_advance_77 (by decide) (fun hc => ?_) (fun hc => ?_)
    · rw [if_neg (fun h => absurd h.1 (of_decide_eq_false (bI_0.mp hc)))] at hs
      exact key w r hs hM hF
    · have c1 := of_decide_eq_true (bI_n0.mp hc)
      refine Z.aload_n ok dX2_advance_80 rfl (by first | exact isRf.r _ | exact isRf.n | exact isRf.v _ | assumption) ?_
      refine Z.get (ci := 1) (C := RX2) (T := TX2) (N := 15) ok (by first | assumption | exact ws_s | (rw [ws_n (by assumption)]; assumption)) rfl in_X2 1 (by decide) q1454 (Or.inl rfl) (by rfl) dX2_advance_81 ?_
      refine Z.aload_n ok dX2_advance_84 rfl (by first | exact isRf.r _ | exact isRf.n | exact isRf.v _ | assumption) ?_
      refine Z.get (ci := 1) (C := RX2) (T := TX2) (N := 15) ok (by first | assumption | exact ws_s | (rw [ws_n (by assumption)]; assumption)) rfl in_X2 7 (by decide) q1460 (Or.inl rfl) (by rfl) dX2_advance_85 ?_
      refine Z.iload ok dX2_advance_88 rfl ?_
      refine Z.ialdN ok h7 (by omega) (by decide) dX2_advance_90 ?_
      refine Z.icmp_ne (tgt := 121) ok dX2_advance_91 (by decide) (fun hd => ?_) (fun hd => ?_)
      · rw [if_neg (fun h => hd h.2.1)] at hs
        exact key w r hs hM hF
      · refine Z.aload_n ok dX2_advance_94 rfl (by first | exact isRf.r _ | exact isRf.n | exact isRf.v _ | assumption) ?_
        refine Z.get (ci := 1) (C := RX2) (T := TX2) (N := 15) ok (by first | assumption | exact ws_s | (rw [ws_n (by assumption)]; assumption)) rfl in_X2 9 (by decide) q1462 (Or.inl rfl) (by rfl) dX2_advance_95 ?_
        refine Z.iload ok dX2_advance_98 rfl ?_
        refine Z.ialdN ok h9 (by omega) (by decide) dX2_advance_100 ?_
        refine Z.if_le (tgt := 121) ok dX2_advance_101 (by decide) (fun he => ?_) (fun he => ?_)
        · rw [if_neg (fun h => absurd h.2.2 (lt_dec.mpr he))] at hs
          exact key w r hs hM hF
        · rw [if_pos ⟨c1, hd, le_dec.mp he⟩] at hs
          refine Z.aload_n ok dX2_advance_104 rfl (by first | exact isRf.r _ | exact isRf.n | exact isRf.v _ | assumption) ?_
          refine Z.get (ci := 1) (C := RX2) (T := TX2) (N := 15) ok (by first | assumption | exact ws_s | (rw [ws_n (by assumption)]; assumption)) rfl in_X2 9 (by decide) q1462 (Or.inl rfl) (by rfl) dX2_advance_105 ?_
          refine Z.iload ok dX2_advance_108 rfl ?_
          refine Z.iconst_0 ok dX2_advance_110 ?_
          refine Z.iastN ok h9 (by decide) (by omega) (by decide) dX2_advance_111 ?_
          obtain ⟨hM1, hF1⟩ := hM.st 9 q 0 (by decide) (by decide)
          generalize hw1 : wset w (ad 9) (eI g 20 (upd (r.1 9) q 0)) 29 = w1
          have hM1 : MR g w1 m ad (up2 r.1 9 q 0) 0 := by rw [← hw1]; exact hM1
          have hF1 : FrM w w1 := by rw [← hw1]; exact hF1
          have hm := hM1.o
          refine Z.aload_n ok dX2_advance_112 rfl (by first | exact isRf.r _ | exact isRf.n | exact isRf.v _ | assumption) ?_
          refine Z.iload ok dX2_advance_113 rfl ?_
          refine Z.callV (ci := 1) (q := (RX2, TX2, 15)) (C := RX2) ok (raises_ct hM1 (q := q) (by omega)) (by first | assumption | exact ws_s | (rw [ws_n (by assumption)]; assumption)) rfl rfl q1561 q1563 (Or.inl qs12) q22 q1564 nk_X2_raises rfl (by decide) (by first | exact Nat.le_of_ble_eq_true rfl | simp [Value.category, cat_rf]) (Nat.le_refl _) (Nat.le_refl _) dX2_advance_115 rfl ZX.no (fun v w2 hp => ?_)
          obtain ⟨rfl, hM2, hF2⟩ := hp
          refine Z.iinc ok dX2_advance_118 rfl rfl ?_
          rw [show r.2 + Int32.ofInt 1 = r.2 + 1 from rfl]
          exact key w2 _ hs hM2 (hF.tr (hF1.tr hF2))
theorem adv_lp (ok : OK g x RX2 cX2_advance 5 4 (some .int)) {w0 : Wd} (hI : InvA S) {N : Nat} (hN1 : N < 2 ^ 31) (kk : ∀ w, MR g w m ad (advS S N).1 0 → FrM w0 w → Z g x 5 133 [some (.ref m), some (.int (nI N)), some (.int (advS S N).2), some (.int (nI N)), none] [] w 0 0) : ∀ d k, k + d = N → ∀ w, MR g w m ad (advS S k).1 0 → FrM w0 w → Z g x 5 44 [some (.ref m), some (.int (nI N)), some (.int (advS S k).2), some (.int (nI k)), none] [] w 0 0 := by
  have hn := hI.1.2
  intro d
  induction d with
  | zero =>
    intro k hk w hM hF
    refine Z.iload_n ok dX2_advance_44 rfl ?_
    refine Z.iload_n ok dX2_advance_45 rfl ?_
    refine Z.icmp_ge (tgt := 133) ok dX2_advance_46 (by decide) (fun _ => ?_) (fun hc => absurd (nI_le (by omega) (by omega)) hc)
    rw [show k = N by omega] at hM ⊢
    exact kk w hM hF
  | succ d ih =>
    intro k hk w hM hF
    have hA := (advS_same k).inv hI
    have hnq := (advS_same (S := S) k).nq
    have hs : advS S (k + 1) = tickS (advS S k).1 (advS S k).2 (nq S) := rfl
    generalize advS S k = r at hM hA hnq hs ⊢
    have hm := hM.o
    refine Z.iload_n ok dX2_advance_44 rfl ?_
    refine Z.iload_n ok dX2_advance_45 rfl ?_
    refine Z.icmp_ge (tgt := 133) ok dX2_advance_46 (by decide) (fun hc => absurd hc (nI_ge (by omega) (by omega))) (fun _ => ?_)
    refine Z.aload_n ok dX2_advance_49 rfl (by first | exact isRf.r _ | exact isRf.n | exact isRf.v _ | assumption) ?_
    refine Z.dup ok dX2_advance_50 (by first | rfl | exact cat_rf _) ?_
    refine Z.get (ci := 1) (C := RX2) (T := TX2) (N := 15) ok (by first | assumption | exact ws_s | (rw [ws_n (by assumption)]; assumption)) rfl in_X2 1 (by decide) q1454 (Or.inl rfl) (by rfl) dX2_advance_51 ?_
    refine Z.iconst_1 ok dX2_advance_54 ?_
    refine Z.iadd ok dX2_advance_55 ?_
    refine Z.put (ci := 1) (C := RX2) (T := TX2) (N := 15) (ty0 := tyX2) ok (by first | assumption | exact ws_s | (rw [ws_n (by assumption)]; assumption)) (by first | decide | assumption) rfl in_X2 tyX2_ok nmX2 1 (by decide) q1454 (Or.inl rfl) rfl (okV_i _) (by rfl) dX2_advance_56 ?_
    obtain ⟨hM1, hF1⟩ := hM.pmin (r.1 1 0 + 1)
    refine Z.iconst_0 ok dX2_advance_59 ?_
    refine Z.istore ok dX2_advance_60 (by decide) ?_
    simp only [m3, m4, nI_add, nI_1, i1, List.set_cons_zero, List.set_cons_succ]
    refine tick_lp (w0 := w0) (S := r.1) (a3 := r.2) ok hA ?_ (nq r.1) 0 (by omega) _ hM1 (hF.tr hF1)
    intro w2 hM2 hF2
    rw [hnq, ← hs] at hM2 ⊢
    refine Z.iinc ok dX2_advance_127 rfl rfl ?_
    refine Z.goto (tgt := 44) ok dX2_advance_130 (by decide) ?_
    simp only [m3, m4, nI_add, nI_1, i1, List.set_cons_zero, List.set_cons_succ]
    exact Z.fg (by simp [fgt]) (ih (k + 1) (by omega) w2 hM2 hF2)
/-- which exception 'advance' tells of -/
def advK (S : St) (mi : Int32) : Int32 := if inB mi 1 1000 then (if S 1 0 + mi ≤ 1000000 then 0 else 2) else 1
theorem advanceM_ct (hM : MR g w m ad S th) (hI : InvA S) (mi : Int32) : Ct g yX2_advance cX2_advance 5 (some .int) 4 0 0 [.ref m, .int mi] w (PM g w m ad (rI (if advK S mi = 0 then (advS S mi.toNatClampNeg).2 else 0)) (if advK S mi = 0 then (advS S mi.toNatClampNeg).1 else S) (advK S mi)) noX := by
  refine Ct.of RX2 "advance" ⟨rfl, rfl⟩ (by decide +kernel) (by simp [Value.category]) (Nat.le_of_ble_eq_true rfl) (fun x ok hQ hN => ?_)
  show Z g x 5 0 [some (.ref m), some (.int mi), none, none, none] [] w 0 0
  have hm := hM.o
  have key : ∀ k, k = advK S mi → Z g x 5 32 [some (.ref m), some (.int mi), none, none, none] [.int k, .ref m] w 0 0 := by
    intro k hk
    refine Z.callV (ci := 1) (q := (RX2, TX2, 15)) (C := RX2) ok (holds_ct hM k) (by first | assumption | exact ws_s | (rw [ws_n (by assumption)]; assumption)) rfl rfl q1508 q1510 (Or.inl qs7) q22 q1511 nk_X2_holds rfl (by decide) (by first | exact Nat.le_of_ble_eq_true rfl | simp [Value.category, cat_rf]) (Nat.le_refl _) (Nat.le_refl _) dX2_advance_32 rfl ZX.no (fun v w1 hp => ?_)
    obtain ⟨rfl, hM1, hF1⟩ := hp
    refine Z.if_ne (tgt := 40) ok dX2_advance_35 (by decide) (fun hc => ?_) (fun hc => ?_)
    · have h0 : k = 0 := of_decide_eq_true (bI_n0.mp hc)
      subst h0
      have hi : inB mi 1 1000 = true := by
        cases hb : inB mi 1 1000 with
        | true => rfl
        | false => rw [advK, hb, if_neg (by decide)] at hk; exact absurd hk (by decide)
      obtain ⟨a, b⟩ := inB_t.mp hi
      have a := Int32.le_iff_toInt_le.mp a
      have b := Int32.le_iff_toInt_le.mp b
      rw [show (1 : Int32).toInt = 1 from rfl] at a
      rw [show (1000 : Int32).toInt = 1000 from rfl] at b
      obtain ⟨N, hN0, rfl⟩ : ∃ N : Nat, N ≤ 1000 ∧ mi = nI N := ⟨mi.toInt.toNat, by omega, by apply Int32.toInt_inj.mp; rw [nI_toInt (by omega)]; omega⟩
      refine Z.iconst_0 ok dX2_advance_40 ?_
      refine Z.istore_n (i := 2) ok dX2_advance_41 rfl (by decide) ?_
      refine Z.iconst_0 ok dX2_advance_42 ?_
      refine Z.istore_n (i := 3) ok dX2_advance_43 rfl (by decide) ?_
      refine adv_lp (w0 := w) ok hI (by omega) ?_ N 0 (by omega) w1 hM1 hF1
      intro w2 hM2 hF2
      refine Z.iload_n ok dX2_advance_133 rfl ?_
      refine Z.iret ok hQ rfl dX2_advance_134 ?_
      exact ⟨by rw [if_pos hk.symm, nI_clamp (by omega)], by rw [if_pos hk.symm, ← hk, nI_clamp (by omega)]; exact hM2, hF2⟩
    · have h0 : ¬ k = 0 := of_decide_eq_false (bI_0.mp (by first | exact hc | exact Classical.not_not.mp hc))
      refine Z.iconst_0 ok dX2_advance_38 ?_
      refine Z.iret ok hQ rfl dX2_advance_39 ?_
      rw [← hk, if_neg h0, if_neg h0]
      exact ⟨rfl, hM1, hF1⟩
  refine Z.aload_n ok dX2_advance_0 rfl (by first | exact isRf.r _ | exact isRf.n | exact isRf.v _ | assumption) ?_
  refine Z.iload_n ok dX2_advance_1 rfl ?_
  refine Z.iconst_1 ok dX2_advance_2 ?_
  refine Z.sipush (v := 1000) ok dX2_advance_3 (by decide) ?_
  refine Z.callS ok (isInM_ct mi 1 1000) q1520 q1521 q22 q1522 nk_X2_isIn rfl (by decide) (by first | exact Nat.le_of_ble_eq_true rfl | simp [Value.category, cat_rf]) (Nat.le_refl _) (Nat.le_refl _) dX2_advance_6 rfl ZX.no (fun v w1 hp => ?_)
  obtain ⟨rfl, rfl⟩ := hp
  unfold advK at key
  refine Z.if_ne (tgt := 16) ok dX2_advance_9 (by decide) (fun hc => ?_) (fun hc => ?_)
  · rw [if_pos (bI_n0.mp hc)] at key
    refine Z.aload_n ok dX2_advance_16 rfl (by first | exact isRf.r _ | exact isRf.n | exact isRf.v _ | assumption) ?_
    refine Z.get (ci := 1) (C := RX2) (T := TX2) (N := 15) ok (by first | assumption | exact ws_s | (rw [ws_n (by assumption)]; assumption)) rfl in_X2 1 (by decide) q1454 (Or.inl rfl) (by rfl) dX2_advance_17 ?_
    refine Z.iload_n ok dX2_advance_20 rfl ?_
    refine Z.iadd ok dX2_advance_21 ?_
    refine Z.ldc ok q1569 dX2_advance_22 ?_
    refine Z.icmp_le (tgt := 31) ok dX2_advance_24 (by decide) (fun hd => ?_) (fun hd => ?_)
    · refine Z.iconst_0 ok dX2_advance_31 ?_
      exact key 0 (by rw [if_pos hd])
    · refine Z.iconst_2 ok dX2_advance_27 ?_
      refine Z.goto (tgt := 32) ok dX2_advance_28 (by decide) ?_
      exact key 2 (by rw [if_neg hd])
  · have hc := bI_0.mp hc
    rw [hc] at key
    refine Z.iconst_1 ok dX2_advance_12 ?_
    refine Z.goto (tgt := 32) ok dX2_advance_13 (by decide) ?_
    exact key 1 rfl
end MODEL4
