/-! ===== ALERTINDEX's NESTED CLASSES: tests ===== -/
section NEST
variable {g : Gx} {w : Wd} {S : St}
/-- the test at place k of the state S, at the address t -/
def isRng (w : Wd) (S : St) (k r : Nat) : Prop := w r = some (ob 4 [.int (S 11 k), .int (S 12 k), .int (S 13 k)], 18)
def isTst (w : Wd) (S : St) (k t : Nat) : Prop := (S 14 k = 0 ∧ isRng w S k t) ∨ (S 14 k = 1 ∧ ∃ r, w t = some (ob 5 [.ref r], 18) ∧ isRng w S k r)
def hasB (S : St) (k : Nat) (v : Int32) : Bool := decide (S 12 k ≤ v) && decide (v ≤ S 13 k)
theorem rngHas_ct {k r : Nat} {v : Int32} (h : isRng w S k r) : Ct g yX6_has cX6_has 2 (some .boolean) 1 0 0 [.ref r, .int v] w (PW (rI (bI (hasB S k v))) w) noX := by
  refine Ct.of RX6 "has" ⟨rfl, rfl⟩ (by decide +kernel) (by simp [Value.category] <;> exact cat_rf _) (Nat.le_of_ble_eq_true rfl) (fun x ok hQ hN => ?_)
  show Z g x 2 0 [some (.ref r), some (.int v)] [] w 0 0
  unfold isRng at h
  refine Z.iload_n ok dX6_has_0 rfl ?_
  refine Z.aload_n ok dX6_has_1 rfl (by first | exact isRf.r _ | exact isRf.n | exact isRf.v _ | assumption) ?_
  refine Z.get (ci := 4) (C := RX6) (T := TX6) (N := 3) ok (by first | assumption | exact ws_s | exact hT _ (by assumption) | (rw [ws_n (by assumption)]; assumption)) rfl in_X6 1 (by decide) q1179 (Or.inl rfl) (by rfl) dX6_has_2 ?_
  by_cases h1 : v < S 12 k
  · refine Z.icmp_lt (tgt := 20) ok dX6_has_5 (by decide) (fun _ => ?_) (fun hc => absurd h1 hc)
    refine Z.iconst_0 ok dX6_has_20 ?_
    refine Z.iret ok hQ (by first | rfl | exact bI_nar _) dX6_has_21 ?_
    refine ⟨?_, rfl⟩
    have : hasB S k v = false := by
      unfold hasB
      rw [decide_eq_false (Int32.not_le.mpr h1)]
      rfl
    rw [this]
    rfl
  · refine Z.icmp_lt (tgt := 20) ok dX6_has_5 (by decide) (fun hc => absurd hc h1) (fun _ => ?_)
    refine Z.iload_n ok dX6_has_8 rfl ?_
    refine Z.aload_n ok dX6_has_9 rfl (by first | exact isRf.r _ | exact isRf.n | exact isRf.v _ | assumption) ?_
    refine Z.get (ci := 4) (C := RX6) (T := TX6) (N := 3) ok (by first | assumption | exact ws_s | exact hT _ (by assumption) | (rw [ws_n (by assumption)]; assumption)) rfl in_X6 2 (by decide) q1180 (Or.inl rfl) (by rfl) dX6_has_10 ?_
    by_cases h2 : S 13 k < v
    · refine Z.icmp_gt (tgt := 20) ok dX6_has_13 (by decide) (fun _ => ?_) (fun hc => absurd h2 hc)
      refine Z.iconst_0 ok dX6_has_20 ?_
      refine Z.iret ok hQ (by first | rfl | exact bI_nar _) dX6_has_21 ?_
      refine ⟨?_, rfl⟩
      have : hasB S k v = false := by
        unfold hasB
        rw [decide_eq_false (Int32.not_le.mpr h2), Bool.and_false]
      rw [this]
      rfl
    · refine Z.icmp_gt (tgt := 20) ok dX6_has_13 (by decide) (fun hc => absurd hc h2) (fun _ => ?_)
      refine Z.iconst_1 ok dX6_has_16 ?_
      refine Z.goto (tgt := 21) ok dX6_has_17 (by decide) ?_
      refine Z.iret ok hQ (by first | rfl | exact bI_nar _) dX6_has_21 ?_
      refine ⟨?_, rfl⟩
      have : hasB S k v = true := by
        unfold hasB
        rw [decide_eq_true (Int32.not_lt.mp h1), decide_eq_true (Int32.not_lt.mp h2)]
        rfl
      rw [this]
      rfl
theorem rngName_ct {k r : Nat} (h : isRng w S k r) : Ct g yX6_name cX6_name 1 (some .int) 1 0 0 [.ref r] w (PW (rI (S 11 k)) w) noX := by
  refine Ct.of RX6 "name" ⟨rfl, rfl⟩ (by decide +kernel) (by simp [Value.category] <;> exact cat_rf _) (Nat.le_of_ble_eq_true rfl) (fun x ok hQ hN => ?_)
  show Z g x 1 0 [some (.ref r)] [] w 0 0
  unfold isRng at h
  refine Z.aload_n ok dX6_name_0 rfl (by first | exact isRf.r _ | exact isRf.n | exact isRf.v _ | assumption) ?_
  refine Z.get (ci := 4) (C := RX6) (T := TX6) (N := 3) ok (by first | assumption | exact ws_s | exact hT _ (by assumption) | (rw [ws_n (by assumption)]; assumption)) rfl in_X6 0 (by decide) q1178 (Or.inl rfl) (by rfl) dX6_name_1 ?_
  refine Z.iret ok hQ (by first | rfl | exact bI_nar _) dX6_name_4 ?_
  exact ⟨rfl, rfl⟩
theorem rngLow_ct {k r : Nat} (h : isRng w S k r) : Ct g yX6_low cX6_low 1 (some .int) 1 0 0 [.ref r] w (PW (rI (S 12 k)) w) noX := by
  refine Ct.of RX6 "low" ⟨rfl, rfl⟩ (by decide +kernel) (by simp [Value.category] <;> exact cat_rf _) (Nat.le_of_ble_eq_true rfl) (fun x ok hQ hN => ?_)
  show Z g x 1 0 [some (.ref r)] [] w 0 0
  unfold isRng at h
  refine Z.aload_n ok dX6_low_0 rfl (by first | exact isRf.r _ | exact isRf.n | exact isRf.v _ | assumption) ?_
  refine Z.get (ci := 4) (C := RX6) (T := TX6) (N := 3) ok (by first | assumption | exact ws_s | exact hT _ (by assumption) | (rw [ws_n (by assumption)]; assumption)) rfl in_X6 1 (by decide) q1179 (Or.inl rfl) (by rfl) dX6_low_1 ?_
  refine Z.iret ok hQ (by first | rfl | exact bI_nar _) dX6_low_4 ?_
  exact ⟨rfl, rfl⟩
theorem rngHigh_ct {k r : Nat} (h : isRng w S k r) : Ct g yX6_high cX6_high 1 (some .int) 1 0 0 [.ref r] w (PW (rI (S 13 k)) w) noX := by
  refine Ct.of RX6 "high" ⟨rfl, rfl⟩ (by decide +kernel) (by simp [Value.category] <;> exact cat_rf _) (Nat.le_of_ble_eq_true rfl) (fun x ok hQ hN => ?_)
  show Z g x 1 0 [some (.ref r)] [] w 0 0
  unfold isRng at h
  refine Z.aload_n ok dX6_high_0 rfl (by first | exact isRf.r _ | exact isRf.n | exact isRf.v _ | assumption) ?_
  refine Z.get (ci := 4) (C := RX6) (T := TX6) (N := 3) ok (by first | assumption | exact ws_s | exact hT _ (by assumption) | (rw [ws_n (by assumption)]; assumption)) rfl in_X6 2 (by decide) q1180 (Or.inl rfl) (by rfl) dX6_high_1 ?_
  refine Z.iret ok hQ (by first | rfl | exact bI_nar _) dX6_high_4 ?_
  exact ⟨rfl, rfl⟩
def rngT (S : St) (k : Nat) : Bool := decide (S 3 (nmN S k) ≠ -1) && hasB S k (S 3 (nmN S k))
theorem rngTrue_ct {k r d td : Nat} (h : isRng w S k r) (hd : w d = some (eI g 6 (S 3), td)) (hn : S 11 k = nI (nmN S k) ∧ nmN S k < 6) : Ct g yX5_isTrue cX5_isTrue 2 (some .boolean) 2 0 0 [.ref r, .ref d] w (PW (rI (bI (rngT S k))) w) noX := by
  refine Ct.of RX5 "isTrue" ⟨rfl, rfl⟩ (by decide +kernel) (by simp [Value.category] <;> exact cat_rf _) (Nat.le_of_ble_eq_true rfl) (fun x ok hQ hN => ?_)
  show Z g x 2 0 [some (.ref r), some (.ref d)] [] w 0 0
  have h0 := h
  unfold isRng at h
  obtain ⟨hn1, hn2⟩ := hn
  refine Z.aload_n ok dX5_isTrue_0 rfl (by first | exact isRf.r _ | exact isRf.n | exact isRf.v _ | assumption) ?_
  refine Z.aload_n ok dX5_isTrue_1 rfl (by first | exact isRf.r _ | exact isRf.n | exact isRf.v _ | assumption) ?_
  refine Z.callF (ci := 4) (q := (RX6, TX6, 3)) (C := RX6) ok (rngName_ct h0) (by first | assumption | exact ws_s | exact hT _ (by assumption) | (rw [ws_n (by assumption)]; assumption)) rfl rfl q208 ⟨q210, q209, q221, q219, q202⟩ q220 (Or.inl q218) q41 q222 nkF_AlertIndex_Test_name rfl (by decide) (by first | exact Nat.le_of_ble_eq_true rfl | simp [Value.category, cat_rf]) (Nat.le_refl _) (Nat.le_refl _) dX5_isTrue_2 rfl ZX.no (fun v w1 hp => ?_)
  obtain ⟨rfl, rfl⟩ := hp
  rw [hn1]
  refine Z.iald ok hd (vp_in_nI hn2 (by decide)) dX5_isTrue_7 ?_
  rw [nI_clamp (by omega)]
  refine Z.iconst_m1 ok dX5_isTrue_8 ?_
  by_cases hv : S 3 (nmN S k) = -1
  · refine Z.icmp_eq (tgt := 33) ok dX5_isTrue_9 (by decide) (fun _ => ?_) (fun hc => absurd hv hc)
    refine Z.iconst_0 ok dX5_isTrue_33 ?_
    refine Z.iret ok hQ (by first | rfl | exact bI_nar _) dX5_isTrue_34 ?_
    refine ⟨?_, rfl⟩
    have : rngT S k = false := by unfold rngT; simp [hv]
    rw [this]
    rfl
  · refine Z.icmp_eq (tgt := 33) ok dX5_isTrue_9 (by decide) (fun hc => absurd hc hv) (fun _ => ?_)
    refine Z.aload_n ok dX5_isTrue_12 rfl (by first | exact isRf.r _ | exact isRf.n | exact isRf.v _ | assumption) ?_
    refine Z.aload_n ok dX5_isTrue_13 rfl (by first | exact isRf.r _ | exact isRf.n | exact isRf.v _ | assumption) ?_
    refine Z.aload_n ok dX5_isTrue_14 rfl (by first | exact isRf.r _ | exact isRf.n | exact isRf.v _ | assumption) ?_
    refine Z.callF (ci := 4) (q := (RX6, TX6, 3)) (C := RX6) ok (rngName_ct h0) (by first | assumption | exact ws_s | exact hT _ (by assumption) | (rw [ws_n (by assumption)]; assumption)) rfl rfl q208 ⟨q210, q209, q221, q219, q202⟩ q220 (Or.inl q218) q41 q222 nkF_AlertIndex_Test_name rfl (by decide) (by first | exact Nat.le_of_ble_eq_true rfl | simp [Value.category, cat_rf]) (Nat.le_refl _) (Nat.le_refl _) dX5_isTrue_15 rfl ZX.no (fun v w1 hp => ?_)
    obtain ⟨rfl, rfl⟩ := hp
    rw [hn1]
    refine Z.iald ok hd (vp_in_nI hn2 (by decide)) dX5_isTrue_20 ?_
    rw [nI_clamp (by omega)]
    refine Z.callF (ci := 4) (q := (RX6, TX6, 3)) (C := RX6) ok (rngHas_ct h0) (by first | assumption | exact ws_s | exact hT _ (by assumption) | (rw [ws_n (by assumption)]; assumption)) rfl rfl q224 ⟨q226, q225, q237, q235, q202⟩ q236 (Or.inl q234) q41 q238 nkF_AlertIndex_Test_has rfl (by decide) (by first | exact Nat.le_of_ble_eq_true rfl | simp [Value.category, cat_rf]) (Nat.le_refl _) (Nat.le_refl _) dX5_isTrue_21 rfl ZX.no (fun v w1 hp => ?_)
    obtain ⟨rfl, rfl⟩ := hp
    have : rngT S k = hasB S k (S 3 (nmN S k)) := by unfold rngT; rw [decide_eq_true hv, Bool.true_and]
    rw [this] at hQ
    by_cases hb : bI (hasB S k (S 3 (nmN S k))) = 0
    · refine Z.if_eq (tgt := 33) ok dX5_isTrue_26 (by decide) (fun _ => ?_) (fun hc => absurd hb hc)
      refine Z.iconst_0 ok dX5_isTrue_33 ?_
      refine Z.iret ok hQ (by first | rfl | exact bI_nar _) dX5_isTrue_34 ?_
      exact ⟨by rw [hb], rfl⟩
    · refine Z.if_eq (tgt := 33) ok dX5_isTrue_26 (by decide) (fun hc => absurd hc hb) (fun _ => ?_)
      refine Z.iconst_1 ok dX5_isTrue_29 ?_
      refine Z.goto (tgt := 34) ok dX5_isTrue_30 (by decide) ?_
      refine Z.iret ok hQ (by first | rfl | exact bI_nar _) dX5_isTrue_34 ?_
      exact ⟨by rw [bI_n0.mp hb]; rfl, rfl⟩
theorem rngPlain_ct {k r : Nat} (h : isRng w S k r) : Ct g yX5_isPlain cX5_isPlain 1 (some .boolean) 2 0 0 [.ref r] w (PW (rI 1) w) noX := by
  refine Ct.of RX5 "isPlain" ⟨rfl, rfl⟩ (by decide +kernel) (by simp [Value.category] <;> exact cat_rf _) (Nat.le_of_ble_eq_true rfl) (fun x ok hQ hN => ?_)
  show Z g x 1 0 [some (.ref r)] [] w 0 0
  refine Z.iconst_1 ok dX5_isPlain_0 ?_
  refine Z.iret ok hQ (by first | rfl | exact bI_nar _) dX5_isPlain_1 ?_
  exact ⟨rfl, rfl⟩
theorem barPlain_ct {r t : Nat} (h : w t = some (ob 5 [.ref r], 18)) : Ct g yX7_isPlain cX7_isPlain 1 (some .boolean) 2 0 0 [.ref t] w (PW (rI 0) w) noX := by
  refine Ct.of RX7 "isPlain" ⟨rfl, rfl⟩ (by decide +kernel) (by simp [Value.category] <;> exact cat_rf _) (Nat.le_of_ble_eq_true rfl) (fun x ok hQ hN => ?_)
  show Z g x 1 0 [some (.ref t)] [] w 0 0
  refine Z.iconst_0 ok dX7_isPlain_0 ?_
  refine Z.iret ok hQ (by first | rfl | exact bI_nar _) dX7_isPlain_1 ?_
  exact ⟨rfl, rfl⟩
theorem barTrue_ct {k r t d td : Nat} (ht : w t = some (ob 5 [.ref r], 18)) (h : isRng w S k r) (hd : w d = some (eI g 6 (S 3), td)) (hn : S 11 k = nI (nmN S k) ∧ nmN S k < 6) : Ct g yX7_isTrue cX7_isTrue 2 (some .boolean) 3 0 0 [.ref t, .ref d] w (PW (rI (bI (!rngT S k))) w) noX := by
  refine Ct.of RX7 "isTrue" ⟨rfl, rfl⟩ (by decide +kernel) (by simp [Value.category] <;> exact cat_rf _) (Nat.le_of_ble_eq_true rfl) (fun x ok hQ hN => ?_)
  show Z g x 2 0 [some (.ref t), some (.ref d)] [] w 0 0
  have h0 := h
  unfold isRng at h
  refine Z.aload_n ok dX7_isTrue_0 rfl (by first | exact isRf.r _ | exact isRf.n | exact isRf.v _ | assumption) ?_
  refine Z.get (ci := 5) (C := RX7) (T := TX7) (N := 1) ok (by first | assumption | exact ws_s | exact hT _ (by assumption) | (rw [ws_n (by assumption)]; assumption)) rfl in_X7 0 (by decide) q1194 (Or.inl rfl) (by rfl) dX7_isTrue_1 ?_
  refine Z.aload_n ok dX7_isTrue_4 rfl (by first | exact isRf.r _ | exact isRf.n | exact isRf.v _ | assumption) ?_
  refine Z.callFD (ci := 4) (q := (RX6, TX6, 3)) (C := RX6) ok (rngTrue_ct h0 hd hn) h rfl rfl q201 ⟨q193, q192, q205, q203, q202⟩ q204 (fun U h => h.1.2.1) q39 q206 nkF_AlertIndex_Test_isTrue rfl (by decide) (by first | exact Nat.le_of_ble_eq_true rfl | simp [Value.category, cat_rf]) (Nat.le_refl _) (Nat.le_refl _) dX7_isTrue_5 rfl ZX.no (fun v w1 hp => ?_)
  obtain ⟨rfl, rfl⟩ := hp
  by_cases hb : bI (rngT S k) = 0
  · refine Z.if_ne (tgt := 17) ok dX7_isTrue_10 (by decide) (fun hc => absurd hb hc) (fun _ => ?_)
    refine Z.iconst_1 ok dX7_isTrue_13 ?_
    refine Z.goto (tgt := 18) ok dX7_isTrue_14 (by decide) ?_
    refine Z.iret ok hQ (by first | rfl | exact bI_nar _) dX7_isTrue_18 ?_
    exact ⟨by rw [bI_0.mp hb]; rfl, rfl⟩
  · refine Z.if_ne (tgt := 17) ok dX7_isTrue_10 (by decide) (fun _ => ?_) (fun hc => absurd hc hb)
    refine Z.iconst_0 ok dX7_isTrue_17 ?_
    refine Z.iret ok hQ (by first | rfl | exact bI_nar _) dX7_isTrue_18 ?_
    exact ⟨by rw [bI_n0.mp hb]; rfl, rfl⟩
theorem tstB_eq (S : St) (k : Nat) : tstB S k = (rngT S k != decide (S 14 k ≠ 0)) := by
  unfold tstB rngT hasB
  rw [Bool.and_assoc]
end NEST
