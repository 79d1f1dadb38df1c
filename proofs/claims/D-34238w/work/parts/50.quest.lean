/-! ===== ALERTINDEX's NESTED CLASSES: questions ===== -/
section QUEST
variable {g : Gx} {w : Wd} {S : St}
/-- the question at place j of the state S, at the address q; its products ps -/
def isQst (g : Gx) (w : Wd) (S : St) (j q : Nat) (ps : List Nat) : Prop := ∃ l, w q = some (ob 2 [.ref l, .int (S 4 j), .int (S 6 j), .int (S 7 j), .int (S 8 j), .int (S 9 j)], 14) ∧ isL g w l 15 ps ∧ ps.length = np S j ∧ np S j ≤ 3 ∧ ∀ k p, ps[k]? = some p → isPrd g w S (3 * j + k) p
theorem isPrd.obj {i p : Nat} (h : isPrd g w S i p) : ∃ fs, w p = some (ob 3 fs, 16) := by
  obtain ⟨_, _, _, h1, -⟩ := h
  exact ⟨_, h1⟩
theorem qt_loop {x : Cx} {j q l d td : Nat} {ps : List Nat} {fs : List Value} (ok : OK g x RX3 cX3_isSatisfied 4 6 (some .boolean)) (hQ : EndQ g x (PW (rI (bI (doesB S j))) w) noX) (hp : w q = some (ob 2 (.ref l :: fs), 14)) (hl : isL g w l 15 ps) (hlen : ps.length = np S j) (h3 : np S j ≤ 3) (hj : j < 20) (hps : ∀ k p, ps[k]? = some p → isPrd g w S (3 * j + k) p) (hd : w d = some (eI g 6 (S 3), td)) (hn : nmOk S) : ∀ (n i : Nat), i + n = np S j → Z g x 4 4 [some (.ref q), some (.ref d), some (.int (bI ((List.range i).any fun t => prodB S (3 * j + t)))), some (.int (nI i))] [] w 0 0
  | 0, i, hi => by
    obtain ⟨fsl, hlo⟩ := hl.obj
    refine Z.iload_n ok dX3_isSatisfied_4 rfl ?_
    refine Z.aload_n ok dX3_isSatisfied_5 rfl (by first | exact isRf.r _ | exact isRf.n | exact isRf.v _ | assumption) ?_
    refine Z.get (ci := 2) (C := RX3) (T := TX3) (N := 6) ok (by first | assumption | exact ws_s | exact hT _ (by assumption) | (rw [ws_n (by assumption)]; assumption)) rfl in_X3 0 (by decide) q1020 (Or.inl rfl) (by rfl) dX3_isSatisfied_6 ?_
    refine Z.callF (ci := 6) (q := (RJ2, TJ2, 3)) (C := RJ2) ok (alistSize_ct hl) hlo rfl rfl q177 ⟨q145, q144, q150, q148, q146⟩ q149 (Or.inl q147) q19 q151 nkF_List_size rfl (by decide) (by first | exact Nat.le_of_ble_eq_true rfl | simp [Value.category, cat_rf]) (Nat.le_refl _) (Nat.le_refl _) dX3_isSatisfied_9 rfl ZX.no (fun v w1 hr => ?_)
    obtain ⟨rfl, rfl⟩ := hr
    refine Z.icmp_ge (tgt := 43) ok dX3_isSatisfied_14 (by decide) (fun _ => ?_) (fun hc => absurd (nI_le (by omega) (by omega)) hc)
    refine Z.iload_n ok dX3_isSatisfied_43 rfl ?_
    refine Z.iret ok hQ (by first | rfl | exact bI_nar _) dX3_isSatisfied_44 ?_
    exact ⟨by rw [show i = np S j by omega]; rfl, rfl⟩
  | n + 1, i, hi => by
    obtain ⟨fsl, hlo⟩ := hl.obj
    have hil : i < ps.length := by omega
    have hk := hps i ps[i] (List.getElem?_eq_getElem hil)
    obtain ⟨fp, hpo⟩ := hk.obj
    refine Z.iload_n ok dX3_isSatisfied_4 rfl ?_
    refine Z.aload_n ok dX3_isSatisfied_5 rfl (by first | exact isRf.r _ | exact isRf.n | exact isRf.v _ | assumption) ?_
    refine Z.get (ci := 2) (C := RX3) (T := TX3) (N := 6) ok (by first | assumption | exact ws_s | exact hT _ (by assumption) | (rw [ws_n (by assumption)]; assumption)) rfl in_X3 0 (by decide) q1020 (Or.inl rfl) (by rfl) dX3_isSatisfied_6 ?_
    refine Z.callF (ci := 6) (q := (RJ2, TJ2, 3)) (C := RJ2) ok (alistSize_ct hl) hlo rfl rfl q177 ⟨q145, q144, q150, q148, q146⟩ q149 (Or.inl q147) q19 q151 nkF_List_size rfl (by decide) (by first | exact Nat.le_of_ble_eq_true rfl | simp [Value.category, cat_rf]) (Nat.le_refl _) (Nat.le_refl _) dX3_isSatisfied_9 rfl ZX.no (fun v w1 hr => ?_)
    obtain ⟨rfl, rfl⟩ := hr
    refine Z.icmp_ge (tgt := 43) ok dX3_isSatisfied_14 (by decide) (fun hc => absurd hc (nI_ge (by omega) (by omega))) (fun _ => ?_)
    refine Z.iload_n ok dX3_isSatisfied_17 rfl ?_
    refine Z.aload_n ok dX3_isSatisfied_18 rfl (by first | exact isRf.r _ | exact isRf.n | exact isRf.v _ | assumption) ?_
    refine Z.get (ci := 2) (C := RX3) (T := TX3) (N := 6) ok (by first | assumption | exact ws_s | exact hT _ (by assumption) | (rw [ws_n (by assumption)]; assumption)) rfl in_X3 0 (by decide) q1020 (Or.inl rfl) (by rfl) dX3_isSatisfied_19 ?_
    refine Z.iload_n ok dX3_isSatisfied_22 rfl ?_
    refine Z.callF (ci := 6) (q := (RJ2, TJ2, 3)) (C := RJ2) ok (alistGet_ct hl (List.getElem?_eq_getElem hil) (by omega)) hlo rfl rfl q179 ⟨q155, q154, q159, q157, q146⟩ q158 (Or.inl q156) q19 q160 nkF_List_get rfl (by decide) (by first | exact Nat.le_of_ble_eq_true rfl | simp [Value.category, cat_rf]) (Nat.le_refl _) (Nat.le_refl _) dX3_isSatisfied_23 rfl ZX.no (fun v w1 hr => ?_)
    obtain ⟨rfl, rfl⟩ := hr
    refine Z.castS (ci := 3) (q := (RX4, TX4, 3)) ok hpo rfl rfl q180 dX3_isSatisfied_28 ?_
    refine Z.aload_n ok dX3_isSatisfied_31 rfl (by first | exact isRf.r _ | exact isRf.n | exact isRf.v _ | assumption) ?_
    refine Z.callV (ci := 3) (q := (RX4, TX4, 3)) (C := RX4) ok (prdTrue_ct hk (by omega) hd hn) hpo rfl rfl q181 q182 (Or.inl q183) q37 q184 nk_X4_isTrue rfl (by decide) (by first | exact Nat.le_of_ble_eq_true rfl | simp [Value.category, cat_rf]) (Nat.le_refl _) (Nat.le_refl _) dX3_isSatisfied_32 rfl ZX.no (fun v w1 hr => ?_)
    obtain ⟨rfl, rfl⟩ := hr
    refine Z.ior ok dX3_isSatisfied_35 ?_
    have e1 : bI ((List.range i).any fun t => prodB S (3 * j + t)) ||| bI (prodB S (3 * j + i)) = bI ((List.range (i + 1)).any fun t => prodB S (3 * j + t)) := by
      rw [any_step]
      cases (List.range i).any fun t => prodB S (3 * j + t) <;> cases prodB S (3 * j + i) <;> rfl
    rw [e1]
    refine Z.istore_n (i := 2) ok dX3_isSatisfied_36 rfl (by decide) ?_
    refine Z.iinc ok dX3_isSatisfied_37 rfl rfl ?_
    refine Z.goto (tgt := 4) ok dX3_isSatisfied_40 (by decide) ?_
    have e3 : nI i + Int32.ofInt 1 = nI (i + 1) := nI_1 i
    have hk := qt_loop ok hQ hp hl hlen h3 hj hps hd hn n (i + 1) (by omega)
    rw [← e3] at hk
    exact hk
theorem qSat_ct {j q d td : Nat} {ps : List Nat} (h : isQst g w S j q ps) (hj : j < 20) (hd : w d = some (eI g 6 (S 3), td)) (hn : nmOk S) : Ct g yX3_isSatisfied cX3_isSatisfied 4 (some .boolean) 6 0 0 [.ref q, .ref d] w (PW (rI (bI (doesB S j))) w) noX := by
  refine Ct.of RX3 "isSatisfied" ⟨rfl, rfl⟩ (by decide +kernel) (by simp [Value.category] <;> exact cat_rf _) (Nat.le_of_ble_eq_true rfl) (fun x ok hQ hN => ?_)
  show Z g x 4 0 [some (.ref q), some (.ref d), none, none] [] w 0 0
  obtain ⟨l, hp, hl, hlen, h3, hps⟩ := h
  refine Z.iconst_0 ok dX3_isSatisfied_0 ?_
  refine Z.istore_n (i := 2) ok dX3_isSatisfied_1 rfl (by decide) ?_
  refine Z.iconst_0 ok dX3_isSatisfied_2 ?_
  refine Z.istore_n (i := 3) ok dX3_isSatisfied_3 rfl (by decide) ?_
  exact qt_loop ok hQ hp hl hlen h3 hj hps hd hn (np S j) 0 (by omega)
theorem plain_le4 (S : St) (i : Nat) : ∀ n, plainN S i n ≤ n
  | 0 => Nat.le_refl _
  | n + 1 => by
    have := plain_le4 S i n
    rw [plainN]
    split <;> omega
theorem qz_loop {x : Cx} {j q l : Nat} {ps : List Nat} {fs : List Value} (ok : OK g x RX3 cX3_size 3 6 (some .int)) (hQ : EndQ g x (PW (rI (nI (sizeN S j))) w) noX) (hp : w q = some (ob 2 (.ref l :: fs), 14)) (hl : isL g w l 15 ps) (hlen : ps.length = np S j) (h3 : np S j ≤ 3) (hps : ∀ k p, ps[k]? = some p → isPrd g w S (3 * j + k) p) (hle : ∀ i, leastN S j i ≤ 4) : ∀ (n i : Nat), i + n = np S j → Z g x 3 20 [some (.ref q), some (.int (nI (leastN S j i))), some (.int (nI i))] [] w 0 0
  | 0, i, hi => by
    obtain ⟨fsl, hlo⟩ := hl.obj
    refine Z.iload_n ok dX3_size_20 rfl ?_
    refine Z.aload_n ok dX3_size_21 rfl (by first | exact isRf.r _ | exact isRf.n | exact isRf.v _ | assumption) ?_
    refine Z.get (ci := 2) (C := RX3) (T := TX3) (N := 6) ok (by first | assumption | exact ws_s | exact hT _ (by assumption) | (rw [ws_n (by assumption)]; assumption)) rfl in_X3 0 (by decide) q1020 (Or.inl rfl) (by rfl) dX3_size_22 ?_
    refine Z.callF (ci := 6) (q := (RJ2, TJ2, 3)) (C := RJ2) ok (alistSize_ct hl) hlo rfl rfl q177 ⟨q145, q144, q150, q148, q146⟩ q149 (Or.inl q147) q19 q151 nkF_List_size rfl (by decide) (by first | exact Nat.le_of_ble_eq_true rfl | simp [Value.category, cat_rf]) (Nat.le_refl _) (Nat.le_refl _) dX3_size_25 rfl ZX.no (fun v w1 hr => ?_)
    obtain ⟨rfl, rfl⟩ := hr
    refine Z.icmp_ge (tgt := 60) ok dX3_size_30 (by decide) (fun _ => ?_) (fun hc => absurd (nI_le (by omega) (by omega)) hc)
    refine Z.iload_n ok dX3_size_60 rfl ?_
    refine Z.iret ok hQ (by first | rfl | exact bI_nar _) dX3_size_61 ?_
    exact ⟨by rw [show i = np S j by omega]; rfl, rfl⟩
  | n + 1, i, hi => by
    obtain ⟨fsl, hlo⟩ := hl.obj
    have hil : i < ps.length := by omega
    have hk := hps i ps[i] (List.getElem?_eq_getElem hil)
    obtain ⟨fp, hpo⟩ := hk.obj
    have h4 : nt S (3 * j + i) ≤ 4 := by
      obtain ⟨_, _, _, _, _, _, h4, _⟩ := id hk
      exact h4
    have hpl := plain_le4 S (3 * j + i) (nt S (3 * j + i))
    refine Z.iload_n ok dX3_size_20 rfl ?_
    refine Z.aload_n ok dX3_size_21 rfl (by first | exact isRf.r _ | exact isRf.n | exact isRf.v _ | assumption) ?_
    refine Z.get (ci := 2) (C := RX3) (T := TX3) (N := 6) ok (by first | assumption | exact ws_s | exact hT _ (by assumption) | (rw [ws_n (by assumption)]; assumption)) rfl in_X3 0 (by decide) q1020 (Or.inl rfl) (by rfl) dX3_size_22 ?_
    refine Z.callF (ci := 6) (q := (RJ2, TJ2, 3)) (C := RJ2) ok (alistSize_ct hl) hlo rfl rfl q177 ⟨q145, q144, q150, q148, q146⟩ q149 (Or.inl q147) q19 q151 nkF_List_size rfl (by decide) (by first | exact Nat.le_of_ble_eq_true rfl | simp [Value.category, cat_rf]) (Nat.le_refl _) (Nat.le_refl _) dX3_size_25 rfl ZX.no (fun v w1 hr => ?_)
    obtain ⟨rfl, rfl⟩ := hr
    refine Z.icmp_ge (tgt := 60) ok dX3_size_30 (by decide) (fun hc => absurd hc (nI_ge (by omega) (by omega))) (fun _ => ?_)
    refine Z.iload_n ok dX3_size_33 rfl ?_
    refine Z.aload_n ok dX3_size_34 rfl (by first | exact isRf.r _ | exact isRf.n | exact isRf.v _ | assumption) ?_
    refine Z.get (ci := 2) (C := RX3) (T := TX3) (N := 6) ok (by first | assumption | exact ws_s | exact hT _ (by assumption) | (rw [ws_n (by assumption)]; assumption)) rfl in_X3 0 (by decide) q1020 (Or.inl rfl) (by rfl) dX3_size_35 ?_
    refine Z.iload_n ok dX3_size_38 rfl ?_
    refine Z.callF (ci := 6) (q := (RJ2, TJ2, 3)) (C := RJ2) ok (alistGet_ct hl (List.getElem?_eq_getElem hil) (by omega)) hlo rfl rfl q179 ⟨q155, q154, q159, q157, q146⟩ q158 (Or.inl q156) q19 q160 nkF_List_get rfl (by decide) (by first | exact Nat.le_of_ble_eq_true rfl | simp [Value.category, cat_rf]) (Nat.le_refl _) (Nat.le_refl _) dX3_size_39 rfl ZX.no (fun v w1 hr => ?_)
    obtain ⟨rfl, rfl⟩ := hr
    refine Z.castS (ci := 3) (q := (RX4, TX4, 3)) ok hpo rfl rfl q180 dX3_size_44 ?_
    refine Z.callV (ci := 3) (q := (RX4, TX4, 3)) (C := RX4) ok (prdSize_ct hk) hpo rfl rfl q975 q938 (Or.inl q939) q37 q940 nk_X4_size rfl (by decide) (by first | exact Nat.le_of_ble_eq_true rfl | simp [Value.category, cat_rf]) (Nat.le_refl _) (Nat.le_refl _) dX3_size_47 rfl ZX.no (fun v w1 hr => ?_)
    obtain ⟨rfl, rfl⟩ := hr
    refine Z.mmin ok q976 q333 q29 q334 (by decide) (by first | exact Nat.le_of_ble_eq_true rfl | simp [Value.category, cat_rf]) dX3_size_50 ?_
    have hl4 := hle i
    have e1 : (if nI (plainN S (3 * j + i) (nt S (3 * j + i))) < nI (leastN S j i) then nI (plainN S (3 * j + i) (nt S (3 * j + i))) else nI (leastN S j i)) = nI (leastN S j (i + 1)) := by
      rw [leastN]
      by_cases hc : plainN S (3 * j + i) (nt S (3 * j + i)) < leastN S j i
      · rw [if_pos hc, if_pos (nI_lt hc (by omega))]
      · rw [if_neg hc, if_neg (nI_nlt (by omega) (by omega))]
    rw [e1]
    refine Z.istore_n (i := 1) ok dX3_size_53 rfl (by decide) ?_
    refine Z.iinc ok dX3_size_54 rfl rfl ?_
    refine Z.goto (tgt := 20) ok dX3_size_57 (by decide) ?_
    have e3 : nI i + Int32.ofInt 1 = nI (i + 1) := nI_1 i
    have hk := qz_loop ok hQ hp hl hlen h3 hps hle n (i + 1) (by omega)
    rw [← e3] at hk
    exact hk
theorem least_le4 (S : St) (j : Nat) : ∀ i, leastN S j i ≤ 4
  | 0 => by rw [leastN]; split <;> omega
  | i + 1 => by
    have := least_le4 S j i
    rw [leastN]
    split <;> omega
theorem qSize_ct {j q : Nat} {ps : List Nat} (h : isQst g w S j q ps) : Ct g yX3_size cX3_size 3 (some .int) 6 0 0 [.ref q] w (PW (rI (nI (sizeN S j))) w) noX := by
  refine Ct.of RX3 "size" ⟨rfl, rfl⟩ (by decide +kernel) (by simp [Value.category] <;> exact cat_rf _) (Nat.le_of_ble_eq_true rfl) (fun x ok hQ hN => ?_)
  show Z g x 3 0 [some (.ref q), none, none] [] w 0 0
  obtain ⟨l, hp, hl, hlen, h3, hps⟩ := h
  obtain ⟨fsl, hlo⟩ := hl.obj
  refine Z.aload_n ok dX3_size_0 rfl (by first | exact isRf.r _ | exact isRf.n | exact isRf.v _ | assumption) ?_
  refine Z.get (ci := 2) (C := RX3) (T := TX3) (N := 6) ok (by first | assumption | exact ws_s | exact hT _ (by assumption) | (rw [ws_n (by assumption)]; assumption)) rfl in_X3 0 (by decide) q1020 (Or.inl rfl) (by rfl) dX3_size_1 ?_
  refine Z.callF (ci := 6) (q := (RJ2, TJ2, 3)) (C := RJ2) ok (alistEmpty_ct hl (by omega)) hlo rfl rfl q967 ⟨q969, q968, q973, q971, q146⟩ q972 (Or.inl q970) q19 q974 nkF_List_isEmpty rfl (by decide) (by first | exact Nat.le_of_ble_eq_true rfl | simp [Value.category, cat_rf]) (Nat.le_refl _) (Nat.le_refl _) dX3_size_4 rfl ZX.no (fun v w1 hr => ?_)
  obtain ⟨rfl, rfl⟩ := hr
  rw [hlen]
  by_cases h0 : np S j = 0
  · rw [decide_eq_true h0]
    refine Z.if_eq (tgt := 16) ok dX3_size_9 (by decide) (fun hc => absurd hc (by decide)) (fun _ => ?_)
    refine Z.iconst_0 ok dX3_size_12 ?_
    refine Z.goto (tgt := 17) ok dX3_size_13 (by decide) ?_
    refine Z.istore_n (i := 1) ok dX3_size_17 rfl (by decide) ?_
    refine Z.iconst_0 ok dX3_size_18 ?_
    refine Z.istore_n (i := 2) ok dX3_size_19 rfl (by decide) ?_
    have e : nI (leastN S j 0) = 0 := by rw [leastN, if_pos h0]; rfl
    have hk := qz_loop ok hQ hp hl hlen h3 hps (least_le4 S j) (np S j) 0 (by omega)
    rw [e] at hk
    exact hk
  · rw [decide_eq_false h0]
    refine Z.if_eq (tgt := 16) ok dX3_size_9 (by decide) (fun _ => ?_) (fun hc => absurd rfl hc)
    refine Z.iconst_4 ok dX3_size_16 ?_
    refine Z.istore_n (i := 1) ok dX3_size_17 rfl (by decide) ?_
    refine Z.iconst_0 ok dX3_size_18 ?_
    refine Z.istore_n (i := 2) ok dX3_size_19 rfl (by decide) ?_
    have e : nI (leastN S j 0) = 4 := by rw [leastN, if_neg h0]; rfl
    have hk := qz_loop ok hQ hp hl hlen h3 hps (least_le4 S j) (np S j) 0 (by omega)
    rw [e] at hk
    exact hk
theorem qRaise_ct {q : Nat} {l : Value} {a b c e f m : Int32} (h : w q = some (ob 2 [l, .int a, .int b, .int c, .int e, .int f], 14)) : Ct g yX3_raise cX3_raise 2 none 1 0 0 [.ref q, .int m] w (fun o w' => o = none ∧ w' q = some (ob 2 [l, .int a, .int b, .int (m + b), .int (e + 1), .int 0], 14) ∧ ∀ z, z ≠ q → w' z = w z) noX := by
  refine Ct.of RX3 "raise" ⟨rfl, rfl⟩ (by decide +kernel) (by simp [Value.category] <;> exact cat_rf _) (Nat.le_of_ble_eq_true rfl) (fun x ok hQ hN => ?_)
  show Z g x 2 0 [some (.ref q), some (.int m)] [] w 0 0
  refine Z.aload_n ok dX3_raise_0 rfl (by first | exact isRf.r _ | exact isRf.n | exact isRf.v _ | assumption) ?_
  refine Z.dup ok dX3_raise_1 (by first | rfl | exact cat_rf _) ?_
  refine Z.get (ci := 2) (C := RX3) (T := TX3) (N := 6) ok (by first | assumption | exact ws_s | exact hT _ (by assumption) | (rw [ws_n (by assumption)]; assumption)) rfl in_X3 4 (by decide) q1027 (Or.inl rfl) (by rfl) dX3_raise_2 ?_
  refine Z.iconst_1 ok dX3_raise_5 ?_
  refine Z.iadd ok dX3_raise_6 ?_
  refine Z.put (ci := 2) (C := RX3) (T := TX3) (N := 6) (ty0 := tyX3) ok (by first | assumption | exact ws_s | exact hT _ (by assumption) | (rw [ws_n (by assumption)]; assumption)) (by first | decide | assumption) rfl in_X3 tyX3_ok nmX3 4 (by decide) q1027 (Or.inl rfl) rfl (okV_i _) (by rfl) dX3_raise_7 ?_
  refine Z.aload_n ok dX3_raise_10 rfl (by first | exact isRf.r _ | exact isRf.n | exact isRf.v _ | assumption) ?_
  refine Z.iconst_0 ok dX3_raise_11 ?_
  refine Z.put (ci := 2) (C := RX3) (T := TX3) (N := 6) (ty0 := tyX3) ok (by first | assumption | exact ws_s | exact hT _ (by assumption) | (rw [ws_n (by assumption)]; assumption)) (by first | decide | assumption) rfl in_X3 tyX3_ok nmX3 5 (by decide) q1029 (Or.inl rfl) rfl (okV_i _) (by rfl) dX3_raise_12 ?_
  refine Z.aload_n ok dX3_raise_15 rfl (by first | exact isRf.r _ | exact isRf.n | exact isRf.v _ | assumption) ?_
  refine Z.iload_n ok dX3_raise_16 rfl ?_
  refine Z.aload_n ok dX3_raise_17 rfl (by first | exact isRf.r _ | exact isRf.n | exact isRf.v _ | assumption) ?_
  refine Z.get (ci := 2) (C := RX3) (T := TX3) (N := 6) ok (by first | assumption | exact ws_s | exact hT _ (by assumption) | (rw [ws_n (by assumption)]; assumption)) rfl in_X3 2 (by decide) q1023 (Or.inl rfl) (by rfl) dX3_raise_18 ?_
  refine Z.iadd ok dX3_raise_21 ?_
  refine Z.put (ci := 2) (C := RX3) (T := TX3) (N := 6) (ty0 := tyX3) ok (by first | assumption | exact ws_s | exact hT _ (by assumption) | (rw [ws_n (by assumption)]; assumption)) (by first | decide | assumption) rfl in_X3 tyX3_ok nmX3 3 (by decide) q1025 (Or.inl rfl) rfl (okV_i _) (by rfl) dX3_raise_22 ?_
  refine Z.vret ok hQ rfl dX3_raise_25 ?_
  exact ⟨rfl, ws_s, fun z hz => (ws_n hz).trans ((ws_n hz).trans (ws_n hz))⟩
end QUEST
