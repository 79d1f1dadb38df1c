/-! ===== ALERTINDEX: advance ===== -/
section ADV
variable {g : Gx} {w0 : Wd} {S : St}
theorem StS.tr {S1 S2 S3 : St} (h1 : StS S1 S2) (h2 : StS S2 S3) : StS S1 S3 := by
  obtain ⟨a1, a2, a3, a4, a5, a6, a7⟩ := h1
  obtain ⟨b1, b2, b3, b4, b5, b6, b7⟩ := h2
  exact ⟨b1.trans a1, b2.trans a2, b3.trans a3, b4.trans a4, b5.trans a5, b6.trans a6, b7.trans a7⟩
/-- the questions of one minute -/
theorem tick_loop {x : Cx} {a lq d mm li N : Nat} {qs : List Nat} {mi n0 : Int32} {l3 : Value} (ok : OK g x RX1 cX1_advance 6 7 (some .int)) (hnd : qs.Nodup) (hI : InvA S) (hN : N = nq S)
    (kont : ∀ (w : Wd) (l5 : Option Value), isAb g w a (tickS S n0 N).1 lq d mm li qs → FrD w0 w → Z g x 6 128 [some (.ref a), some (.int mi), some (.int (tickS S n0 N).2), some l3, some (.int (nI N)), l5] [] w 0 0) : ∀ (n j : Nat) (w : Wd) (l5 : Option Value), j + n = N → isAb g w a (tickS S n0 j).1 lq d mm li qs → FrD w0 w → Z g x 6 52 [some (.ref a), some (.int mi), some (.int (tickS S n0 j).2), some l3, some (.int (nI j)), l5] [] w 0 0
  | 0, j, w, l5, hj, hA, hF => by
    have hA0 := hA
    obtain ⟨ha, hd, hl, hlen, hqs⟩ := hA
    have hn2 := hI.1.2
    have hnq := (tickS_same (S := S) (n := n0) j).nq
    obtain ⟨fsl, hlo⟩ := hl.obj
    refine Z.iload ok dX1_advance_52 rfl ?_
    refine Z.aload_n ok dX1_advance_54 rfl (by first | exact isRf.r _ | exact isRf.n | exact isRf.v _ | assumption) ?_
    refine Z.get (ci := 0) (C := RX1) (T := TX1) (N := 5) ok (by first | assumption | exact ws_s | exact hT _ (by assumption) | (rw [ws_n (by assumption)]; assumption)) rfl in_X1 0 (by decide) q122 (Or.inl rfl) (by rfl) dX1_advance_55 ?_
    refine Z.callF (ci := 6) (q := (RJ2, TJ2, 3)) (C := RJ2) ok (alistSize_ct hl) hlo rfl rfl q143 ⟨q145, q144, q150, q148, q146⟩ q149 (Or.inl q147) q19 q151 nkF_List_size rfl (by decide) (by first | exact Nat.le_of_ble_eq_true rfl | simp [Value.category, cat_rf]) (Nat.le_refl _) (Nat.le_refl _) dX1_advance_58 rfl ZX.no (fun v w1 hr => ?_)
    obtain ⟨rfl, rfl⟩ := hr
    refine Z.icmp_ge (tgt := 128) ok dX1_advance_63 (by decide) (fun _ => ?_) (fun hc => absurd (nI_le (by omega) (by omega)) hc)
    obtain rfl : j = N := by omega
    exact kont w l5 hA0 hF
  | n + 1, j, w, l5, hj, hA, hF => by
    have hA0 := hA
    have hsame := tickS_same (S := S) (n := n0) j
    have hnq := hsame.nq
    have h4 : (tickS S n0 j).1 4 = S 4 := hsame.2.2.1
    have es : tickS S n0 (j + 1) = if S 4 j = 0 ∧ (tickS S n0 j).1 1 0 = (tickS S n0 j).1 7 j ∧ 0 < (tickS S n0 j).1 9 j then (raisesS (up2 (tickS S n0 j).1 9 j 0) j, (tickS S n0 j).2 + 1) else tickS S n0 j := rfl
    have ih := fun (w : Wd) (l5 : Option Value) => tick_loop ok hnd hI hN kont n (j + 1) w l5 (by omega)
    generalize tickS S n0 j = r at *
    obtain ⟨Sj, many⟩ := r
    simp only [] at *
    obtain ⟨ha, hd, hl, hlen, hqs⟩ := hA
    have hn2 := hI.1.2
    obtain ⟨fsl, hlo⟩ := hl.obj
    have hjl : j < qs.length := by omega
    have hgj := List.getElem?_eq_getElem hjl
    obtain ⟨ps, hqj⟩ := hqs j _ hgj
    obtain ⟨l, hqo, -⟩ := id hqj
    have e3 : nI j + Int32.ofInt 1 = nI (j + 1) := nI_1 j
    have skip : ∀ l5 : Option Value, ¬ (S 4 j = 0 ∧ Sj 1 0 = Sj 7 j ∧ 0 < Sj 9 j) → Z g x 6 122 [some (.ref a), some (.int mi), some (.int many), some l3, some (.int (nI j)), l5] [] w 0 0 := by
      intro l5 hc
      refine Z.iinc ok dX1_advance_122 rfl rfl ?_
      refine Z.goto (tgt := 52) ok dX1_advance_125 (by decide) ?_
      have hk := ih w l5
      rw [es, if_neg hc] at hk
      have hk2 := hk hA0 hF
      rw [← e3] at hk2
      exact hk2
    refine Z.iload ok dX1_advance_52 rfl ?_
    refine Z.aload_n ok dX1_advance_54 rfl (by first | exact isRf.r _ | exact isRf.n | exact isRf.v _ | assumption) ?_
    refine Z.get (ci := 0) (C := RX1) (T := TX1) (N := 5) ok (by first | assumption | exact ws_s | exact hT _ (by assumption) | (rw [ws_n (by assumption)]; assumption)) rfl in_X1 0 (by decide) q122 (Or.inl rfl) (by rfl) dX1_advance_55 ?_
    refine Z.callF (ci := 6) (q := (RJ2, TJ2, 3)) (C := RJ2) ok (alistSize_ct hl) hlo rfl rfl q143 ⟨q145, q144, q150, q148, q146⟩ q149 (Or.inl q147) q19 q151 nkF_List_size rfl (by decide) (by first | exact Nat.le_of_ble_eq_true rfl | simp [Value.category, cat_rf]) (Nat.le_refl _) (Nat.le_refl _) dX1_advance_58 rfl ZX.no (fun v w1 hr => ?_)
    obtain ⟨rfl, rfl⟩ := hr
    refine Z.icmp_ge (tgt := 128) ok dX1_advance_63 (by decide) (fun hc => absurd hc (nI_ge (by omega) (by omega))) (fun _ => ?_)
    refine Z.aload_n ok dX1_advance_66 rfl (by first | exact isRf.r _ | exact isRf.n | exact isRf.v _ | assumption) ?_
    refine Z.get (ci := 0) (C := RX1) (T := TX1) (N := 5) ok (by first | assumption | exact ws_s | exact hT _ (by assumption) | (rw [ws_n (by assumption)]; assumption)) rfl in_X1 0 (by decide) q122 (Or.inl rfl) (by rfl) dX1_advance_67 ?_
    refine Z.iload ok dX1_advance_70 rfl ?_
    refine Z.callF (ci := 6) (q := (RJ2, TJ2, 3)) (C := RJ2) ok (alistGet_ct hl hgj (by omega)) hlo rfl rfl q153 ⟨q155, q154, q159, q157, q146⟩ q158 (Or.inl q156) q19 q160 nkF_List_get rfl (by decide) (by first | exact Nat.le_of_ble_eq_true rfl | simp [Value.category, cat_rf]) (Nat.le_refl _) (Nat.le_refl _) dX1_advance_72 rfl ZX.no (fun v w1 hr => ?_)
    obtain ⟨rfl, rfl⟩ := hr
    refine Z.castS (ci := 2) (q := (RX3, TX3, 6)) ok hqo rfl rfl q171 dX1_advance_77 ?_
    refine Z.astore ok dX1_advance_80 (by decide) (by first | exact isRf.r _ | exact isRf.n | exact isRf.v _ | assumption) ?_
    refine Z.aload ok dX1_advance_82 rfl (by first | exact isRf.r _ | exact isRf.n | exact isRf.v _ | assumption) ?_
    refine Z.get (ci := 2) (C := RX3) (T := TX3) (N := 6) ok hqo rfl in_X3 1 (by decide) q1022 (Or.inl rfl) (by rfl) dX1_advance_84 ?_
    by_cases h0 : Sj 4 j = 0
    · refine Z.if_ne (tgt := 122) ok dX1_advance_87 (by decide) (fun hc => absurd h0 hc) (fun _ => ?_)
      refine Z.aload ok dX1_advance_90 rfl (by first | exact isRf.r _ | exact isRf.n | exact isRf.v _ | assumption) ?_
      refine Z.get (ci := 2) (C := RX3) (T := TX3) (N := 6) ok hqo rfl in_X3 3 (by decide) q1026 (Or.inl rfl) (by rfl) dX1_advance_92 ?_
      refine Z.aload_n ok dX1_advance_95 rfl (by first | exact isRf.r _ | exact isRf.n | exact isRf.v _ | assumption) ?_
      refine Z.get (ci := 0) (C := RX1) (T := TX1) (N := 5) ok (by first | assumption | exact ws_s | exact hT _ (by assumption) | (rw [ws_n (by assumption)]; assumption)) rfl in_X1 4 (by decide) q126 (Or.inl rfl) (by rfl) dX1_advance_96 ?_
      by_cases h7 : Sj 7 j = Sj 1 0
      · refine Z.icmp_ne (tgt := 122) ok dX1_advance_99 (by decide) (fun hc => absurd h7 hc) (fun _ => ?_)
        refine Z.aload ok dX1_advance_102 rfl (by first | exact isRf.r _ | exact isRf.n | exact isRf.v _ | assumption) ?_
        refine Z.get (ci := 2) (C := RX3) (T := TX3) (N := 6) ok hqo rfl in_X3 5 (by decide) q1030 (Or.inl rfl) (by rfl) dX1_advance_104 ?_
        by_cases h9 : 0 < Sj 9 j
        · refine Z.if_le (tgt := 122) ok dX1_advance_107 (by decide) (fun hc => absurd hc (Int32.not_le.mpr h9)) (fun _ => ?_)
          refine Z.aload ok dX1_advance_110 rfl (by first | exact isRf.r _ | exact isRf.n | exact isRf.v _ | assumption) ?_
          refine Z.aload_n ok dX1_advance_112 rfl (by first | exact isRf.r _ | exact isRf.n | exact isRf.v _ | assumption) ?_
          refine Z.get (ci := 0) (C := RX1) (T := TX1) (N := 5) ok (by first | assumption | exact ws_s | exact hT _ (by assumption) | (rw [ws_n (by assumption)]; assumption)) rfl in_X1 4 (by decide) q126 (Or.inl rfl) (by rfl) dX1_advance_113 ?_
          refine Z.callV (ci := 2) (q := (RX3, TX3, 6)) (C := RX3) ok (qRaise_ct (m := Sj 1 0) hqo) hqo rfl rfl q239 q240 (Or.inl q241) q27 q242 nk_X3_raise rfl (by decide) (by first | exact Nat.le_of_ble_eq_true rfl | simp [Value.category, cat_rf]) (Nat.le_refl _) (Nat.le_refl _) dX1_advance_116 rfl ZX.no (fun v w1 hr => ?_)
          obtain ⟨rfl, q1, q2⟩ := hr
          rw [if_pos ⟨by rw [← h4]; exact h0, h7.symm, h9⟩] at es
          obtain ⟨r1, r2⟩ := hA0.q1 (S' := raisesS (up2 Sj 9 j 0) j) (w' := w1) hnd hgj ((StS.up (k := 9) (by decide)).tr ((StS.up (k := 8) (by decide)).tr (StS.up (k := 7) (by decide)))) hqo (by
              have c4 : raisesS (up2 Sj 9 j 0) j 4 j = Sj 4 j := (up2_k (by decide)).trans ((up2_k (by decide)).trans (up2_k (by decide)))
              have c6 : raisesS (up2 Sj 9 j 0) j 6 j = Sj 6 j := (up2_k (by decide)).trans ((up2_k (by decide)).trans (up2_k (by decide)))
              have c7 : raisesS (up2 Sj 9 j 0) j 7 j = Sj 1 0 + Sj 6 j := by
                refine up2_s.trans ?_
                rw [up2_k (by decide), up2_k (by decide)]
              have c8 : raisesS (up2 Sj 9 j 0) j 8 j = Sj 8 j + 1 := by
                refine (up2_k (by decide)).trans (up2_s.trans ?_)
                rw [up2_k (by decide)]
              have c9 : raisesS (up2 Sj 9 j 0) j 9 j = 0 := (up2_k (by decide)).trans ((up2_k (by decide)).trans up2_s)
              rw [c4, c6, c7, c8, c9]
              exact q1) q2 ((up2_k (by decide)).trans ((up2_k (by decide)).trans (up2_k (by decide)))) (by funext b; exact (up2_k (by decide)).trans ((up2_k (by decide)).trans (up2_k (by decide)))) (fun i hi => ⟨(up2_k (by decide)).trans ((up2_k (by decide)).trans (up2_k (by decide))), (up2_k (by decide)).trans ((up2_k (by decide)).trans (up2_k (by decide))), (up2_j hi).trans ((up2_k (by decide)).trans (up2_k (by decide))), (up2_k (by decide)).trans ((up2_j hi).trans (up2_k (by decide))), (up2_k (by decide)).trans ((up2_k (by decide)).trans (up2_j hi))⟩)
          refine Z.iinc ok dX1_advance_119 rfl rfl ?_
          refine Z.iinc ok dX1_advance_122 rfl rfl ?_
          refine Z.goto (tgt := 52) ok dX1_advance_125 (by decide) ?_
          have hk := ih w1 (some (.ref qs[j]))
          rw [es] at hk
          have hk2 := hk r1 (hF.tr r2)
          rw [← e3] at hk2
          exact hk2
        · refine Z.if_le (tgt := 122) ok dX1_advance_107 (by decide) (fun _ => ?_) (fun hc => absurd (Int32.not_lt.mp h9) hc)
          exact skip _ (fun c => h9 c.2.2)
      · refine Z.icmp_ne (tgt := 122) ok dX1_advance_99 (by decide) (fun _ => ?_) (fun hc => absurd hc h7)
        exact skip _ (fun c => h7 c.2.1.symm)
    · refine Z.if_ne (tgt := 122) ok dX1_advance_87 (by decide) (fun _ => ?_) (fun hc => absurd hc h0)
      exact skip _ (fun c => h0 (by rw [h4]; exact c.1))
theorem adv_loop {x : Cx} {a lq d mm li M : Nat} {qs : List Nat} {Post : Option Value → Wd → Prop} {PostX : String → Wd → Prop} (ok : OK g x RX1 cX1_advance 6 7 (some .int)) (hQ : EndQ g x Post PostX) (hnd : qs.Nodup) (hI : InvA S) (hM : M < 2 ^ 30) (hp : ∀ w, isAb g w a (advS S M).1 lq d mm li qs → FrD w0 w → Post (rI (advS S M).2) w) : ∀ (n k : Nat) (w : Wd) (l4 l5 : Option Value), k + n = M → isAb g w a (advS S k).1 lq d mm li qs → FrD w0 w → Z g x 6 34 [some (.ref a), some (.int (nI M)), some (.int (advS S k).2), some (.int (nI k)), l4, l5] [] w 0 0
  | 0, k, w, l4, l5, hk, hA, hF => by
    refine Z.iload_n ok dX1_advance_34 rfl ?_
    refine Z.iload_n ok dX1_advance_35 rfl ?_
    refine Z.icmp_ge (tgt := 134) ok dX1_advance_36 (by decide) (fun _ => ?_) (fun hc => absurd (nI_le (by omega) (by omega)) hc)
    refine Z.iload_n ok dX1_advance_134 rfl ?_
    refine Z.iret ok hQ (by first | rfl | exact bI_nar _) dX1_advance_135 ?_
    obtain rfl : k = M := by omega
    exact hp w hA hF
  | n + 1, k, w, l4, l5, hk, hA, hF => by
    have hA0 := hA
    have hIk := (advS_same (S := S) k).inv hI
    have hnqk := (advS_same (S := S) k).nq
    have es : advS S (k + 1) = tickS (advS S k).1 (advS S k).2 (nq S) := rfl
    have ih := fun (w : Wd) (l4 l5 : Option Value) => adv_loop ok hQ hnd hI hM hp n (k + 1) w l4 l5 (by omega)
    rw [es] at ih
    obtain ⟨ha, hd, -⟩ := hA
    obtain ⟨n1, n2⟩ := hA0.nm
    have e3 : nI k + Int32.ofInt 1 = nI (k + 1) := nI_1 k
    refine Z.iload_n ok dX1_advance_34 rfl ?_
    refine Z.iload_n ok dX1_advance_35 rfl ?_
    refine Z.icmp_ge (tgt := 134) ok dX1_advance_36 (by decide) (fun hc => absurd hc (nI_ge (by omega) (by omega))) (fun _ => ?_)
    refine Z.aload_n ok dX1_advance_39 rfl (by first | exact isRf.r _ | exact isRf.n | exact isRf.v _ | assumption) ?_
    refine Z.dup ok dX1_advance_40 (by first | rfl | exact cat_rf _) ?_
    refine Z.get (ci := 0) (C := RX1) (T := TX1) (N := 5) ok (by first | assumption | exact ws_s | exact hT _ (by assumption) | (rw [ws_n (by assumption)]; assumption)) rfl in_X1 4 (by decide) q126 (Or.inl rfl) (by rfl) dX1_advance_41 ?_
    refine Z.iconst_1 ok dX1_advance_44 ?_
    refine Z.iadd ok dX1_advance_45 ?_
    refine Z.put (ci := 0) (C := RX1) (T := TX1) (N := 5) (ty0 := tyX1) ok (by first | assumption | exact ws_s | exact hT _ (by assumption) | (rw [ws_n (by assumption)]; assumption)) (by first | decide | assumption) rfl in_X1 tyX1_ok nmX1 4 (by decide) q126 (Or.inl rfl) rfl (okV_i _) (by rfl) dX1_advance_46 ?_
    refine Z.iconst_0 ok dX1_advance_49 ?_
    refine Z.istore ok dX1_advance_50 (by decide) ?_
    have hF2 : FrD w (wset w a (ob 0 [.ref lq, .ref d, .ref mm, .ref li, .int ((advS S k).1 1 0 + 1)]) 10) := FrD.one ha (by decide) (fun b hb => ws_n hb) (fun l fs h => by cases h)
    have hA2 : isAb g (wset w a (ob 0 [.ref lq, .ref d, .ref mm, .ref li, .int ((advS S k).1 1 0 + 1)]) 10) a (tickS (advS S k).1 (advS S k).2 0).1 lq d mm li qs := by
      refine hA0.dyn (S' := up2 (advS S k).1 1 0 ((advS S k).1 1 0 + 1)) hF2 (StS.up (by decide)) (by rw [ws_s, up2_s]) ((ws_n (Ne.symm n1)).trans (by rw [hd]; congr 3)) (fun j q l hj hq => (ws_n (n2 j q hj).1).trans ?_)
      rw [hq, up2_k (by decide), up2_k (by decide), up2_k (by decide), up2_k (by decide), up2_k (by decide)]
    refine tick_loop (S := (advS S k).1) (n0 := (advS S k).2) (w0 := w0) (N := nq S) ok hnd hIk hnqk.symm (fun w2 l5 hA3 hF3 => ?_) (nq S) 0 _ _ (by omega) hA2 (hF.tr hF2)
    refine Z.iinc ok dX1_advance_128 rfl rfl ?_
    refine Z.goto (tgt := 34) ok dX1_advance_131 (by decide) ?_
    have hk2 := ih w2 (some (.int (nI (nq S)))) l5 hA3 hF3
    rw [← e3] at hk2
    exact hk2
theorem advance_ctA {a lq d mm li : Nat} {qs : List Nat} (hA : isAb g w0 a S lq d mm li qs) (hnd : qs.Nodup) (hI : InvA S) (mi : Int32) : Ct g yX1_advance cX1_advance 6 (some .int) 7 2 12 [.ref a, .int mi] w0 (fun o w' => advK S mi = 0 ∧ o = rI (advS S mi.toNatClampNeg).2 ∧ isAb g w' a (advS S mi.toNatClampNeg).1 lq d mm li qs ∧ FrD w0 w') (fun E w' => w0 = w' ∧ ((E = cIAE ∧ advK S mi = 1) ∨ (E = cISE ∧ advK S mi = 2))) := by
  refine Ct.of RX1 "advance" ⟨rfl, rfl⟩ (by decide +kernel) (by simp [Value.category] <;> exact cat_rf _) (Nat.le_of_ble_eq_true rfl) (fun x ok hQ hN => ?_)
  show Z g x 6 0 [some (.ref a), some (.int mi), none, none, none, none] [] w0 2 12
  have ha := hA.1
  refine Z.iload_n ok dX1_advance_0 rfl ?_
  refine Z.iconst_1 ok dX1_advance_1 ?_
  refine Z.sipush (v := 1000) ok dX1_advance_2 (by decide) ?_
  refine Z.callS (kc' := 2) (ks' := 12) ok (isIn_ct mi 1 1000) q1153 q1154 q16 q1155 nk_X1_isIn rfl (by decide) (by first | exact Nat.le_of_ble_eq_true rfl | simp [Value.category, cat_rf]) (by omega) (by omega) dX1_advance_5 rfl ZX.no (fun v w1 hr => ?_)
  obtain ⟨rfl, rfl⟩ := hr
  refine Z.callS (kc' := 1) (ks' := 6) ok (want_ct (inB mi 1 1000)) q1156 q1157 q16 q1158 nk_X1_want rfl (by decide) (by first | exact Nat.le_of_ble_eq_true rfl | simp [Value.category, cat_rf]) (by omega) (by omega) dX1_advance_8 rfl (fun E q w' h => ZX.out ok hQ ⟨h.2.1, Or.inl ⟨h.1, by have := h.2.2; unfold advK; rw [this]; rfl⟩⟩) (fun v w1 hr => ?_)
  obtain ⟨rfl, rfl, h1⟩ := hr
  obtain ⟨b1, b2⟩ := inB_t.mp h1
  have key : ∀ b : Bool, b = decide (S 1 0 + mi ≤ 1000000) → Z g x 6 27 [some (.ref a), some (.int mi), none, none, none, none] [.int (bI b)] w0 1 6 := by
    intro b hb
    refine Z.callS (kc' := 0) (ks' := 0) ok (allow_ct b) q989 q990 q16 q991 nk_X1_allow rfl (by decide) (by first | exact Nat.le_of_ble_eq_true rfl | simp [Value.category, cat_rf]) (by omega) (by omega) dX1_advance_27 rfl (fun E q w' h => ZX.out ok hQ ⟨h.2.1, Or.inr ⟨h.1, by have h2 := h.2.2; unfold advK; rw [h1, if_pos rfl, if_neg (of_decide_eq_false (hb ▸ h2))]⟩⟩) (fun v w2 hr => ?_)
    obtain ⟨rfl, rfl, h2⟩ := hr
    have hle : S 1 0 + mi ≤ 1000000 := of_decide_eq_true (hb ▸ h2)
    have hk0 : advK S mi = 0 := by unfold advK; rw [h1, if_pos rfl, if_pos hle]
    have hpos : ¬ mi < 0 := fun h => by
      have e1 := i32le.mp b1
      have e2 := i32lt.mp h
      have e3 : (1 : Int32).toInt = 1 := by decide
      rw [e3] at e1
      rw [Int32.toInt_zero] at e2
      omega
    obtain ⟨M, hM, rfl⟩ := nI_of hpos
    have hM2 : M ≤ 1000 := (nI_leI hM (by decide)).mp (show nI M ≤ nI 1000 from b2)
    have e : (nI M).toNatClampNeg = M := nI_clamp hM
    rw [e] at hQ
    refine Z.iconst_0 ok dX1_advance_30 ?_
    refine Z.istore_n (i := 2) ok dX1_advance_31 rfl (by decide) ?_
    refine Z.iconst_0 ok dX1_advance_32 ?_
    refine Z.istore_n (i := 3) ok dX1_advance_33 rfl (by decide) ?_
    exact adv_loop (w0 := w0) ok hQ hnd hI (by omega) (fun w hw hF => ⟨hk0, rfl, hw, hF⟩) M 0 w0 _ _ (by omega) hA FrD.rf
  refine Z.aload_n ok dX1_advance_11 rfl (by first | exact isRf.r _ | exact isRf.n | exact isRf.v _ | assumption) ?_
  refine Z.get (ci := 0) (C := RX1) (T := TX1) (N := 5) ok (by first | assumption | exact ws_s | exact hT _ (by assumption) | (rw [ws_n (by assumption)]; assumption)) rfl in_X1 4 (by decide) q126 (Or.inl rfl) (by rfl) dX1_advance_12 ?_
  refine Z.iload_n ok dX1_advance_15 rfl ?_
  refine Z.iadd ok dX1_advance_16 ?_
  refine Z.ldc ok q1397 dX1_advance_17 ?_
  by_cases hle : S 1 0 + mi ≤ 1000000
  · refine Z.icmp_gt (tgt := 26) ok dX1_advance_19 (by decide) (fun hc => absurd hc (Int32.not_lt.mpr hle)) (fun _ => ?_)
    refine Z.iconst_1 ok dX1_advance_22 ?_
    refine Z.goto (tgt := 27) ok dX1_advance_23 (by decide) ?_
    exact key true (decide_eq_true hle).symm
  · refine Z.icmp_gt (tgt := 26) ok dX1_advance_19 (by decide) (fun _ => ?_) (fun hc => absurd (Int32.not_le.mp hle) hc)
    refine Z.iconst_0 ok dX1_advance_26 ?_
    exact key false (decide_eq_false hle).symm
end ADV
