/-! ===== ALERTINDEX: come ===== -/
theorem come_row {S : St} : ∀ (j : Nat), (∀ k, k ≠ 7 → k ≠ 8 → k ≠ 9 → (comeS S j).1 k = S k) ∧ ∀ k i, j ≤ i → (comeS S j).1 k i = S k i
  | 0 => ⟨fun _ _ _ _ => rfl, fun _ _ _ => rfl⟩
  | j + 1 => by
    obtain ⟨h1, h2⟩ := come_row (S := S) j
    have e : comeS S (j + 1) = if actB (comeS S j).1 j then (if (comeS S j).1 1 0 < (comeS S j).1 7 j then (up2 (comeS S j).1 9 j ((comeS S j).1 9 j + 1), (comeS S j).2) else (raisesS (comeS S j).1 j, (comeS S j).2 ||| bitN j)) else comeS S j := rfl
    rw [e]
    split
    · split
      · refine ⟨fun k a b c => ?_, fun k i hi => ?_⟩
        · rw [← h1 k a b c]
          funext x
          exact up2_k c
        · rw [← h2 k i (by omega)]
          exact up2_j (by omega)
      · refine ⟨fun k a b c => ?_, fun k i hi => ?_⟩
        · rw [← h1 k a b c]
          funext x
          exact (up2_k a).trans (up2_k b)
        · rw [← h2 k i (by omega)]
          exact (up2_j (by omega)).trans (up2_j (by omega))
    · exact ⟨h1, fun k i hi => h2 k i (by omega)⟩
section COME
variable {g : Gx} {w0 : Wd} {S : St}
theorem come_loop {x : Cx} {a lq d mm li : Nat} {qs : List Nat} (ok : OK g x RX1 cX1_come 4 7 (some .int)) (hQ : EndQ g x (fun o w' => o = rI (comeS S (nq S)).2 ∧ isAb g w' a (comeS S (nq S)).1 lq d mm li qs ∧ FrD w0 w') noX) (hnd : qs.Nodup) (hI : InvA S) (hB : ∀ q, q < nq S → S 4 q = 0 → ¬ S 1 0 < S 7 q → S 9 q = 0) : ∀ (n j : Nat) (w : Wd) (l3 : Option Value), j + n = nq S → isAb g w a (comeS S j).1 lq d mm li qs → FrD w0 w → Z g x 4 4 [some (.ref a), some (.int (comeS S j).2), some (.int (nI j)), l3] [] w 0 0
  | 0, j, w, l3, hj, hA, hF => by
    have hA0 := hA
    obtain ⟨ha, hd, hl, hlen, hqs⟩ := hA
    have hn2 := hI.1.2
    have hnq := (comeS_same (S := S) j).nq
    obtain ⟨fsl, hlo⟩ := hl.obj
    refine Z.iload_n ok dX1_come_4 rfl ?_
    refine Z.aload_n ok dX1_come_5 rfl (by first | exact isRf.r _ | exact isRf.n | exact isRf.v _ | assumption) ?_
    refine Z.get (ci := 0) (C := RX1) (T := TX1) (N := 5) ok (by first | assumption | exact ws_s | exact hT _ (by assumption) | (rw [ws_n (by assumption)]; assumption)) rfl in_X1 0 (by decide) q122 (Or.inl rfl) (by rfl) dX1_come_6 ?_
    refine Z.callF (ci := 6) (q := (RJ2, TJ2, 3)) (C := RJ2) ok (alistSize_ct hl) hlo rfl rfl q143 ⟨q145, q144, q150, q148, q146⟩ q149 (Or.inl q147) q19 q151 nkF_List_size rfl (by decide) (by first | exact Nat.le_of_ble_eq_true rfl | simp [Value.category, cat_rf]) (Nat.le_refl _) (Nat.le_refl _) dX1_come_9 rfl ZX.no (fun v w1 hr => ?_)
    obtain ⟨rfl, rfl⟩ := hr
    refine Z.icmp_ge (tgt := 93) ok dX1_come_14 (by decide) (fun _ => ?_) (fun hc => absurd (nI_le (by omega) (by omega)) hc)
    refine Z.iload_n ok dX1_come_93 rfl ?_
    refine Z.iret ok hQ (by first | rfl | exact bI_nar _) dX1_come_94 ?_
    obtain rfl : j = nq S := by omega
    exact ⟨rfl, hA0, hF⟩
  | n + 1, j, w, l3, hj, hA, hF => by
    have hA0 := hA
    have hsame := comeS_same (S := S) j
    have hIj := hsame.inv hI
    have hnq := hsame.nq
    obtain ⟨row1, row2⟩ := come_row (S := S) j
    have es : comeS S (j + 1) = if actB (comeS S j).1 j then (if (comeS S j).1 1 0 < (comeS S j).1 7 j then (up2 (comeS S j).1 9 j ((comeS S j).1 9 j + 1), (comeS S j).2) else (raisesS (comeS S j).1 j, (comeS S j).2 ||| bitN j)) else comeS S j := rfl
    have ih := fun (w : Wd) (l3 : Option Value) => come_loop ok hQ hnd hI hB n (j + 1) w l3 (by omega)
    have h9 : (comeS S j).1 4 j = 0 → ¬ (comeS S j).1 1 0 < (comeS S j).1 7 j → (comeS S j).1 9 j = 0 := by
      rw [row1 4 (by decide) (by decide) (by decide), row1 1 (by decide) (by decide) (by decide), row2 7 j (Nat.le_refl _), row2 9 j (Nat.le_refl _)]
      exact hB j (by omega)
    generalize comeS S j = r at *
    obtain ⟨Sj, set⟩ := r
    simp only [] at *
    obtain ⟨ha, hd, hl, hlen, hqs⟩ := hA
    have hn2 := hI.1.2
    have hn : nmOk Sj := fun k hk => hIj.2.2.2.1 k hk
    obtain ⟨fsl, hlo⟩ := hl.obj
    have hjl : j < qs.length := by omega
    have hgj := List.getElem?_eq_getElem hjl
    obtain ⟨ps, hqj⟩ := hqs j _ hgj
    obtain ⟨l, hqo, -⟩ := id hqj
    have e3 : nI j + Int32.ofInt 1 = nI (j + 1) := nI_1 j
    have skip : ∀ l3 : Option Value, actB Sj j = false → Z g x 4 87 [some (.ref a), some (.int set), some (.int (nI j)), l3] [] w 0 0 := by
      intro l3 hc
      refine Z.iinc ok dX1_come_87 rfl rfl ?_
      refine Z.goto (tgt := 4) ok dX1_come_90 (by decide) ?_
      have hk := ih w l3
      rw [es, hc] at hk
      have hk2 := hk hA0 hF
      rw [← e3] at hk2
      exact hk2
    refine Z.iload_n ok dX1_come_4 rfl ?_
    refine Z.aload_n ok dX1_come_5 rfl (by first | exact isRf.r _ | exact isRf.n | exact isRf.v _ | assumption) ?_
    refine Z.get (ci := 0) (C := RX1) (T := TX1) (N := 5) ok (by first | assumption | exact ws_s | exact hT _ (by assumption) | (rw [ws_n (by assumption)]; assumption)) rfl in_X1 0 (by decide) q122 (Or.inl rfl) (by rfl) dX1_come_6 ?_
    refine Z.callF (ci := 6) (q := (RJ2, TJ2, 3)) (C := RJ2) ok (alistSize_ct hl) hlo rfl rfl q143 ⟨q145, q144, q150, q148, q146⟩ q149 (Or.inl q147) q19 q151 nkF_List_size rfl (by decide) (by first | exact Nat.le_of_ble_eq_true rfl | simp [Value.category, cat_rf]) (Nat.le_refl _) (Nat.le_refl _) dX1_come_9 rfl ZX.no (fun v w1 hr => ?_)
    obtain ⟨rfl, rfl⟩ := hr
    refine Z.icmp_ge (tgt := 93) ok dX1_come_14 (by decide) (fun hc => absurd hc (nI_ge (by omega) (by omega))) (fun _ => ?_)
    refine Z.aload_n ok dX1_come_17 rfl (by first | exact isRf.r _ | exact isRf.n | exact isRf.v _ | assumption) ?_
    refine Z.get (ci := 0) (C := RX1) (T := TX1) (N := 5) ok (by first | assumption | exact ws_s | exact hT _ (by assumption) | (rw [ws_n (by assumption)]; assumption)) rfl in_X1 0 (by decide) q122 (Or.inl rfl) (by rfl) dX1_come_18 ?_
    refine Z.iload_n ok dX1_come_21 rfl ?_
    refine Z.callF (ci := 6) (q := (RJ2, TJ2, 3)) (C := RJ2) ok (alistGet_ct hl hgj (by omega)) hlo rfl rfl q153 ⟨q155, q154, q159, q157, q146⟩ q158 (Or.inl q156) q19 q160 nkF_List_get rfl (by decide) (by first | exact Nat.le_of_ble_eq_true rfl | simp [Value.category, cat_rf]) (Nat.le_refl _) (Nat.le_refl _) dX1_come_22 rfl ZX.no (fun v w1 hr => ?_)
    obtain ⟨rfl, rfl⟩ := hr
    refine Z.castS (ci := 2) (q := (RX3, TX3, 6)) ok hqo rfl rfl q171 dX1_come_27 ?_
    refine Z.astore_n (i := 3) ok dX1_come_30 rfl (by decide) (by first | exact isRf.r _ | exact isRf.n | exact isRf.v _ | assumption) ?_
    refine Z.aload_n ok dX1_come_31 rfl (by first | exact isRf.r _ | exact isRf.n | exact isRf.v _ | assumption) ?_
    refine Z.get (ci := 2) (C := RX3) (T := TX3) (N := 6) ok hqo rfl in_X3 1 (by decide) q1022 (Or.inl rfl) (by rfl) dX1_come_32 ?_
    by_cases h0 : Sj 4 j = 0
    · refine Z.if_ne (tgt := 87) ok dX1_come_35 (by decide) (fun hc => absurd h0 hc) (fun _ => ?_)
      refine Z.aload_n ok dX1_come_38 rfl (by first | exact isRf.r _ | exact isRf.n | exact isRf.v _ | assumption) ?_
      refine Z.aload_n ok dX1_come_39 rfl (by first | exact isRf.r _ | exact isRf.n | exact isRf.v _ | assumption) ?_
      refine Z.get (ci := 0) (C := RX1) (T := TX1) (N := 5) ok (by first | assumption | exact ws_s | exact hT _ (by assumption) | (rw [ws_n (by assumption)]; assumption)) rfl in_X1 1 (by decide) q123 (Or.inl rfl) (by rfl) dX1_come_40 ?_
      refine Z.callV (ci := 2) (q := (RX3, TX3, 6)) (C := RX3) ok (qSat_ct hqj (by omega) hd hn) hqo rfl rfl q172 q173 (Or.inl q174) q27 q175 nk_X3_isSatisfied rfl (by decide) (by first | exact Nat.le_of_ble_eq_true rfl | simp [Value.category, cat_rf]) (Nat.le_refl _) (Nat.le_refl _) dX1_come_43 rfl ZX.no (fun v w1 hr => ?_)
      obtain ⟨rfl, rfl⟩ := hr
      have ea : actB Sj j = doesB Sj j := by unfold actB; rw [decide_eq_true h0, Bool.true_and]
      by_cases hb : bI (doesB Sj j) = 0
      · refine Z.if_eq (tgt := 87) ok dX1_come_46 (by decide) (fun _ => ?_) (fun hc => absurd hb hc)
        exact skip _ (by rw [ea, bI_0.mp hb])
      · refine Z.if_eq (tgt := 87) ok dX1_come_46 (by decide) (fun hc => absurd hc hb) (fun _ => ?_)
        have hact : actB Sj j = true := by rw [ea, bI_n0.mp hb]
        rw [hact, if_pos rfl] at es
        refine Z.aload_n ok dX1_come_49 rfl (by first | exact isRf.r _ | exact isRf.n | exact isRf.v _ | assumption) ?_
        refine Z.get (ci := 0) (C := RX1) (T := TX1) (N := 5) ok (by first | assumption | exact ws_s | exact hT _ (by assumption) | (rw [ws_n (by assumption)]; assumption)) rfl in_X1 4 (by decide) q126 (Or.inl rfl) (by rfl) dX1_come_50 ?_
        refine Z.aload_n ok dX1_come_53 rfl (by first | exact isRf.r _ | exact isRf.n | exact isRf.v _ | assumption) ?_
        refine Z.get (ci := 2) (C := RX3) (T := TX3) (N := 6) ok hqo rfl in_X3 3 (by decide) q1026 (Or.inl rfl) (by rfl) dX1_come_54 ?_
        by_cases hlt : Sj 1 0 < Sj 7 j
        · rw [if_pos hlt] at es
          refine Z.icmp_ge (tgt := 73) ok dX1_come_57 (by decide) (fun hc => absurd hc (Int32.not_le.mpr hlt)) (fun _ => ?_)
          refine Z.aload_n ok dX1_come_60 rfl (by first | exact isRf.r _ | exact isRf.n | exact isRf.v _ | assumption) ?_
          refine Z.dup ok dX1_come_61 (by first | rfl | exact cat_rf _) ?_
          refine Z.get (ci := 2) (C := RX3) (T := TX3) (N := 6) ok hqo rfl in_X3 5 (by decide) q1030 (Or.inl rfl) (by rfl) dX1_come_62 ?_
          refine Z.iconst_1 ok dX1_come_65 ?_
          refine Z.iadd ok dX1_come_66 ?_
          refine Z.put (ci := 2) (C := RX3) (T := TX3) (N := 6) (ty0 := tyX3) ok hqo (by first | decide | assumption) rfl in_X3 tyX3_ok nmX3 5 (by decide) q1030 (Or.inl rfl) rfl (okV_i _) (by rfl) dX1_come_67 ?_
          obtain ⟨r1, r2⟩ := hA0.q1 (S' := up2 Sj 9 j (Sj 9 j + 1)) (w' := wset w qs[j] (ob 2 [.ref l, .int (Sj 4 j), .int (Sj 6 j), .int (Sj 7 j), .int (Sj 8 j), .int (Sj 9 j + 1)]) 14) hnd hgj (StS.up (by decide)) hqo (by rw [ws_s, up2_s, up2_k (by decide), up2_k (by decide), up2_k (by decide), up2_k (by decide)]) (fun b hb => ws_n hb) (up2_k (by decide)) (by funext b; exact up2_k (by decide)) (fun i hi => ⟨up2_k (by decide), up2_k (by decide), up2_k (by decide), up2_k (by decide), up2_j hi⟩)
          refine Z.goto (tgt := 87) ok dX1_come_70 (by decide) ?_
          refine Z.iinc ok dX1_come_87 rfl rfl ?_
          refine Z.goto (tgt := 4) ok dX1_come_90 (by decide) ?_
          have hk := ih (wset w qs[j] (ob 2 [.ref l, .int (Sj 4 j), .int (Sj 6 j), .int (Sj 7 j), .int (Sj 8 j), .int (Sj 9 j + 1)]) 14) (some (.ref qs[j]))
          rw [es] at hk
          have hk2 := hk r1 (hF.tr r2)
          rw [← e3] at hk2
          exact hk2
        · rw [if_neg hlt] at es
          refine Z.icmp_ge (tgt := 73) ok dX1_come_57 (by decide) (fun _ => ?_) (fun hc => absurd (Int32.not_lt.mp hlt) hc)
          refine Z.aload_n ok dX1_come_73 rfl (by first | exact isRf.r _ | exact isRf.n | exact isRf.v _ | assumption) ?_
          refine Z.aload_n ok dX1_come_74 rfl (by first | exact isRf.r _ | exact isRf.n | exact isRf.v _ | assumption) ?_
          refine Z.get (ci := 0) (C := RX1) (T := TX1) (N := 5) ok (by first | assumption | exact ws_s | exact hT _ (by assumption) | (rw [ws_n (by assumption)]; assumption)) rfl in_X1 4 (by decide) q126 (Or.inl rfl) (by rfl) dX1_come_75 ?_
          refine Z.callV (ci := 2) (q := (RX3, TX3, 6)) (C := RX3) ok (qRaise_ct (m := Sj 1 0) hqo) hqo rfl rfl q239 q240 (Or.inl q241) q27 q242 nk_X3_raise rfl (by decide) (by first | exact Nat.le_of_ble_eq_true rfl | simp [Value.category, cat_rf]) (Nat.le_refl _) (Nat.le_refl _) dX1_come_78 rfl ZX.no (fun v w1 hr => ?_)
          obtain ⟨rfl, q1, q2⟩ := hr
          have hz := h9 h0 hlt
          obtain ⟨r1, r2⟩ := hA0.q1 (S' := raisesS Sj j) (w' := w1) hnd hgj (by
              have s1 : StS Sj (up2 Sj 8 j (Sj 8 j + 1)) := StS.up (by decide)
              obtain ⟨a1, a2, a3, a4, a5, a6, a7⟩ := s1
              obtain ⟨b1, b2, b3, b4, b5, b6, b7⟩ : StS (up2 Sj 8 j (Sj 8 j + 1)) (raisesS Sj j) := StS.up (by decide)
              exact ⟨b1.trans a1, b2.trans a2, b3.trans a3, b4.trans a4, b5.trans a5, b6.trans a6, b7.trans a7⟩) hqo (by
              have c4 : raisesS Sj j 4 j = Sj 4 j := (up2_k (by decide)).trans (up2_k (by decide))
              have c6 : raisesS Sj j 6 j = Sj 6 j := (up2_k (by decide)).trans (up2_k (by decide))
              have c7 : raisesS Sj j 7 j = Sj 1 0 + Sj 6 j := up2_s
              have c8 : raisesS Sj j 8 j = Sj 8 j + 1 := (up2_k (by decide)).trans up2_s
              have c9 : raisesS Sj j 9 j = 0 := ((up2_k (by decide)).trans (up2_k (by decide))).trans hz
              rw [c4, c6, c7, c8, c9]
              exact q1) q2 ((up2_k (by decide)).trans (up2_k (by decide))) (by funext b; exact (up2_k (by decide)).trans (up2_k (by decide))) (fun i hi => ⟨(up2_k (by decide)).trans (up2_k (by decide)), (up2_k (by decide)).trans (up2_k (by decide)), (up2_j hi).trans (up2_k (by decide)), (up2_k (by decide)).trans (up2_j hi), (up2_k (by decide)).trans (up2_k (by decide))⟩)
          refine Z.iload_n ok dX1_come_81 rfl ?_
          refine Z.iconst_1 ok dX1_come_82 ?_
          refine Z.iload_n ok dX1_come_83 rfl ?_
          refine Z.ishl ok dX1_come_84 rfl ?_
          refine Z.ior ok dX1_come_85 ?_
          refine Z.istore_n (i := 1) ok dX1_come_86 rfl (by decide) ?_
          refine Z.iinc ok dX1_come_87 rfl rfl ?_
          refine Z.goto (tgt := 4) ok dX1_come_90 (by decide) ?_
          have hk := ih w1 (some (.ref qs[j]))
          rw [es] at hk
          have hk2 := hk r1 (hF.tr r2)
          rw [← e3] at hk2
          exact hk2
    · refine Z.if_ne (tgt := 87) ok dX1_come_35 (by decide) (fun _ => ?_) (fun hc => absurd hc h0)
      exact skip _ (by unfold actB; rw [decide_eq_false h0]; rfl)
theorem come_ctA {a lq d mm li : Nat} {qs : List Nat} (hA : isAb g w0 a S lq d mm li qs) (hnd : qs.Nodup) (hI : InvA S) (hB : ∀ q, q < nq S → S 4 q = 0 → ¬ S 1 0 < S 7 q → S 9 q = 0) : Ct g yX1_come cX1_come 4 (some .int) 7 0 0 [.ref a] w0 (fun o w' => o = rI (comeS S (nq S)).2 ∧ isAb g w' a (comeS S (nq S)).1 lq d mm li qs ∧ FrD w0 w') noX := by
  refine Ct.of RX1 "come" ⟨rfl, rfl⟩ (by decide +kernel) (by simp [Value.category] <;> exact cat_rf _) (Nat.le_of_ble_eq_true rfl) (fun x ok hQ hN => ?_)
  show Z g x 4 0 [some (.ref a), none, none, none] [] w0 0 0
  refine Z.iconst_0 ok dX1_come_0 ?_
  refine Z.istore_n (i := 1) ok dX1_come_1 rfl (by decide) ?_
  refine Z.iconst_0 ok dX1_come_2 ?_
  refine Z.istore_n (i := 2) ok dX1_come_3 rfl (by decide) ?_
  exact come_loop ok hQ hnd hI hB (nq S) 0 w0 _ (by omega) hA FrD.rf
end COME
