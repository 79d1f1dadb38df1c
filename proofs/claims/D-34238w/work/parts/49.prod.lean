/-! ===== ALERTINDEX's NESTED CLASSES: products and questions, read ===== -/
section PROD
variable {g : Gx} {w : Wd} {S : St}
/-- the product at place i of the state S, at the address p -/
def isPrd (g : Gx) (w : Wd) (S : St) (i p : Nat) : Prop := ∃ l ts fd, w p = some (ob 3 [.ref l, .int (nI (i / 3)), .int fd], 16) ∧ isL g w l 17 ts ∧ ts.length = nt S i ∧ nt S i ≤ 4 ∧ ∀ k t, ts[k]? = some t → isTst w S (4 * i + k) t
theorem isL.obj {l tl : Nat} {xs : List Nat} (h : isL g w l tl xs) : ∃ fs, w l = some (ob 6 fs, tl) := by
  obtain ⟨_, _, _, _, h1, -⟩ := h
  exact ⟨_, h1⟩
/-- a test's class -/
theorem isTst.obj {k t : Nat} (h : isTst w S k t) : ∃ ci fs, w t = some (ob ci fs, 18) ∧ (ci = 4 ∨ ci = 5) := by
  rcases h with ⟨-, h⟩ | ⟨-, r, h, -⟩
  · exact ⟨4, _, h, Or.inl rfl⟩
  · exact ⟨5, _, h, Or.inr rfl⟩
def nmOk (S : St) : Prop := ∀ k, k < 240 → S 11 k = nI (nmN S k) ∧ nmN S k < 6
def pa_ok (S : St) : Prop := nmOk S ∧ ∀ i, i < 60 → nt S i ≤ 4
theorem pt_loop {x : Cx} {i p l d td : Nat} {ts : List Nat} {fd : Int32} (ok : OK g x RX4 cX4_isTrue 4 5 (some .boolean)) (hQ : EndQ g x (PW (rI (bI (prodB S i))) w) noX) (hp : w p = some (ob 3 [.ref l, .int (nI (i / 3)), .int fd], 16)) (hl : isL g w l 17 ts) (hlen : ts.length = nt S i) (h4 : nt S i ≤ 4) (hi : i < 60) (hts : ∀ k t, ts[k]? = some t → isTst w S (4 * i + k) t) (hd : w d = some (eI g 6 (S 3), td)) (hn : nmOk S) : ∀ (n j : Nat), j + n = nt S i → Z g x 4 4 [some (.ref p), some (.ref d), some (.int (bI ((List.range j).all fun t => tstB S (4 * i + t)))), some (.int (nI j))] [] w 0 0
  | 0, j, hj => by
    obtain ⟨fsl, hlo⟩ := hl.obj
    refine Z.iload_n ok dX4_isTrue_4 rfl ?_
    refine Z.aload_n ok dX4_isTrue_5 rfl (by first | exact isRf.r _ | exact isRf.n | exact isRf.v _ | assumption) ?_
    refine Z.get (ci := 3) (C := RX4) (T := TX4) (N := 3) ok (by first | assumption | exact ws_s | exact hT _ (by assumption) | (rw [ws_n (by assumption)]; assumption)) rfl in_X4 0 (by decide) q1133 (Or.inl rfl) (by rfl) dX4_isTrue_6 ?_
    refine Z.callF (ci := 6) (q := (RJ2, TJ2, 3)) (C := RJ2) ok (alistSize_ct hl) hlo rfl rfl q186 ⟨q145, q144, q150, q148, q146⟩ q149 (Or.inl q147) q19 q151 nkF_List_size rfl (by decide) (by first | exact Nat.le_of_ble_eq_true rfl | simp [Value.category, cat_rf]) (Nat.le_refl _) (Nat.le_refl _) dX4_isTrue_9 rfl ZX.no (fun v w1 hr => ?_)
    obtain ⟨rfl, rfl⟩ := hr
    refine Z.icmp_ge (tgt := 45) ok dX4_isTrue_14 (by decide) (fun _ => ?_) (fun hc => absurd (nI_le (by omega) (by omega)) hc)
    refine Z.iload_n ok dX4_isTrue_45 rfl ?_
    refine Z.iret ok hQ (by first | rfl | exact bI_nar _) dX4_isTrue_46 ?_
    refine ⟨?_, rfl⟩
    have : j = nt S i := by omega
    rw [this]
    rfl
  | n + 1, j, hj => by
    obtain ⟨fsl, hlo⟩ := hl.obj
    have hjl : j < ts.length := by omega
    have hk := hts j ts[j] (List.getElem?_eq_getElem hjl)
    refine Z.iload_n ok dX4_isTrue_4 rfl ?_
    refine Z.aload_n ok dX4_isTrue_5 rfl (by first | exact isRf.r _ | exact isRf.n | exact isRf.v _ | assumption) ?_
    refine Z.get (ci := 3) (C := RX4) (T := TX4) (N := 3) ok (by first | assumption | exact ws_s | exact hT _ (by assumption) | (rw [ws_n (by assumption)]; assumption)) rfl in_X4 0 (by decide) q1133 (Or.inl rfl) (by rfl) dX4_isTrue_6 ?_
    refine Z.callF (ci := 6) (q := (RJ2, TJ2, 3)) (C := RJ2) ok (alistSize_ct hl) hlo rfl rfl q186 ⟨q145, q144, q150, q148, q146⟩ q149 (Or.inl q147) q19 q151 nkF_List_size rfl (by decide) (by first | exact Nat.le_of_ble_eq_true rfl | simp [Value.category, cat_rf]) (Nat.le_refl _) (Nat.le_refl _) dX4_isTrue_9 rfl ZX.no (fun v w1 hr => ?_)
    obtain ⟨rfl, rfl⟩ := hr
    refine Z.icmp_ge (tgt := 45) ok dX4_isTrue_14 (by decide) (fun hc => absurd hc (nI_ge (by omega) (by omega))) (fun _ => ?_)
    refine Z.iload_n ok dX4_isTrue_17 rfl ?_
    refine Z.aload_n ok dX4_isTrue_18 rfl (by first | exact isRf.r _ | exact isRf.n | exact isRf.v _ | assumption) ?_
    refine Z.get (ci := 3) (C := RX4) (T := TX4) (N := 3) ok (by first | assumption | exact ws_s | exact hT _ (by assumption) | (rw [ws_n (by assumption)]; assumption)) rfl in_X4 0 (by decide) q1133 (Or.inl rfl) (by rfl) dX4_isTrue_19 ?_
    refine Z.iload_n ok dX4_isTrue_22 rfl ?_
    refine Z.callF (ci := 6) (q := (RJ2, TJ2, 3)) (C := RJ2) ok (alistGet_ct hl (List.getElem?_eq_getElem hjl) (by omega)) hlo rfl rfl q188 ⟨q155, q154, q159, q157, q146⟩ q158 (Or.inl q156) q19 q160 nkF_List_get rfl (by decide) (by first | exact Nat.le_of_ble_eq_true rfl | simp [Value.category, cat_rf]) (Nat.le_refl _) (Nat.le_refl _) dX4_isTrue_23 rfl ZX.no (fun v w1 hr => ?_)
    obtain ⟨rfl, rfl⟩ := hr
    have nx : ∀ b : Bool, b = tstB S (4 * i + j) → Z g x 4 37 [some (.ref p), some (.ref d), some (.int (bI ((List.range j).all fun t => tstB S (4 * i + t)))), some (.int (nI j))] [.int (bI b), .int (bI ((List.range j).all fun t => tstB S (4 * i + t)))] w 0 0 := by
      intro b hb
      subst hb
      refine Z.iand ok dX4_isTrue_37 ?_
      have e1 : bI ((List.range j).all fun t => tstB S (4 * i + t)) &&& bI (tstB S (4 * i + j)) = bI ((List.range (j + 1)).all fun t => tstB S (4 * i + t)) := by
        rw [all_step]
        cases (List.range j).all fun t => tstB S (4 * i + t) <;> cases tstB S (4 * i + j) <;> rfl
      rw [e1]
      refine Z.istore_n (i := 2) ok dX4_isTrue_38 rfl (by decide) ?_
      refine Z.iinc ok dX4_isTrue_39 rfl rfl ?_
      refine Z.goto (tgt := 4) ok dX4_isTrue_42 (by decide) ?_
      have e3 : nI j + Int32.ofInt 1 = nI (j + 1) := nI_1 j
      have hk := pt_loop ok hQ hp hl hlen h4 hi hts hd hn n (j + 1) (by omega)
      rw [← e3] at hk
      exact hk
    rcases hk with ⟨b1, hk⟩ | ⟨b1, r, ht, hk⟩
    · have hk0 := hk
      unfold isRng at hk0
      refine Z.castY (ci := 4) (q := (RX6, TX6, 3)) ok hk0 rfl q202 q189 dX4_isTrue_28 ?_
      refine Z.aload_n ok dX4_isTrue_31 rfl (by first | exact isRf.r _ | exact isRf.n | exact isRf.v _ | assumption) ?_
      refine Z.callFD (ci := 4) (q := (RX6, TX6, 3)) (C := RX6) ok (rngTrue_ct hk hd (hn _ (by omega))) hk0 rfl rfl q191 ⟨q193, q192, q205, q203, q202⟩ q204 (fun U h => h.1.2.1) q39 q206 nkF_AlertIndex_Test_isTrue rfl (by decide) (by first | exact Nat.le_of_ble_eq_true rfl | simp [Value.category, cat_rf]) (Nat.le_refl _) (Nat.le_refl _) dX4_isTrue_32 rfl ZX.no (fun v w1 hr => ?_)
      obtain ⟨rfl, rfl⟩ := hr
      refine nx _ ?_
      rw [tstB_eq, b1]
      cases rngT S (4 * i + j) <;> rfl
    · refine Z.castY (ci := 5) (q := (RX7, TX7, 1)) ok ht rfl q194 q189 dX4_isTrue_28 ?_
      refine Z.aload_n ok dX4_isTrue_31 rfl (by first | exact isRf.r _ | exact isRf.n | exact isRf.v _ | assumption) ?_
      refine Z.callF (ci := 5) (q := (RX7, TX7, 1)) (C := RX7) ok (barTrue_ct ht hk hd (hn _ (by omega))) ht rfl rfl q191 ⟨q193, q192, q198, q196, q194⟩ q197 (Or.inl q195) q42 q199 nkF_AlertIndex_Test_isTrue rfl (by decide) (by first | exact Nat.le_of_ble_eq_true rfl | simp [Value.category, cat_rf]) (Nat.le_refl _) (Nat.le_refl _) dX4_isTrue_32 rfl ZX.no (fun v w1 hr => ?_)
      obtain ⟨rfl, rfl⟩ := hr
      refine nx _ ?_
      rw [tstB_eq, b1]
      cases rngT S (4 * i + j) <;> rfl
theorem prdTrue_ct {i p d td : Nat} (h : isPrd g w S i p) (hi : i < 60) (hd : w d = some (eI g 6 (S 3), td)) (hn : nmOk S) : Ct g yX4_isTrue cX4_isTrue 4 (some .boolean) 5 0 0 [.ref p, .ref d] w (PW (rI (bI (prodB S i))) w) noX := by
  refine Ct.of RX4 "isTrue" ⟨rfl, rfl⟩ (by decide +kernel) (by simp [Value.category] <;> exact cat_rf _) (Nat.le_of_ble_eq_true rfl) (fun x ok hQ hN => ?_)
  show Z g x 4 0 [some (.ref p), some (.ref d), none, none] [] w 0 0
  obtain ⟨l, ts, fd, hp, hl, hlen, h4, hts⟩ := h
  refine Z.iconst_1 ok dX4_isTrue_0 ?_
  refine Z.istore_n (i := 2) ok dX4_isTrue_1 rfl (by decide) ?_
  refine Z.iconst_0 ok dX4_isTrue_2 ?_
  refine Z.istore_n (i := 3) ok dX4_isTrue_3 rfl (by decide) ?_
  exact pt_loop ok hQ hp hl hlen h4 hi hts hd hn (nt S i) 0 (by omega)
theorem pz_loop {x : Cx} {i p l : Nat} {ts : List Nat} {fd : Int32} (ok : OK g x RX4 cX4_size 3 5 (some .int)) (hQ : EndQ g x (PW (rI (nI (plainN S i (nt S i)))) w) noX) (hp : w p = some (ob 3 [.ref l, .int (nI (i / 3)), .int fd], 16)) (hl : isL g w l 17 ts) (hlen : ts.length = nt S i) (h4 : nt S i ≤ 4) (hts : ∀ k t, ts[k]? = some t → isTst w S (4 * i + k) t) : ∀ (n j : Nat), j + n = nt S i → Z g x 3 4 [some (.ref p), some (.int (nI (plainN S i j))), some (.int (nI j))] [] w 0 0
  | 0, j, hj => by
    obtain ⟨fsl, hlo⟩ := hl.obj
    refine Z.iload_n ok dX4_size_4 rfl ?_
    refine Z.aload_n ok dX4_size_5 rfl (by first | exact isRf.r _ | exact isRf.n | exact isRf.v _ | assumption) ?_
    refine Z.get (ci := 3) (C := RX4) (T := TX4) (N := 3) ok (by first | assumption | exact ws_s | exact hT _ (by assumption) | (rw [ws_n (by assumption)]; assumption)) rfl in_X4 0 (by decide) q1133 (Or.inl rfl) (by rfl) dX4_size_6 ?_
    refine Z.callF (ci := 6) (q := (RJ2, TJ2, 3)) (C := RJ2) ok (alistSize_ct hl) hlo rfl rfl q186 ⟨q145, q144, q150, q148, q146⟩ q149 (Or.inl q147) q19 q151 nkF_List_size rfl (by decide) (by first | exact Nat.le_of_ble_eq_true rfl | simp [Value.category, cat_rf]) (Nat.le_refl _) (Nat.le_refl _) dX4_size_9 rfl ZX.no (fun v w1 hr => ?_)
    obtain ⟨rfl, rfl⟩ := hr
    refine Z.icmp_ge (tgt := 52) ok dX4_size_14 (by decide) (fun _ => ?_) (fun hc => absurd (nI_le (by omega) (by omega)) hc)
    refine Z.iload_n ok dX4_size_52 rfl ?_
    refine Z.iret ok hQ (by first | rfl | exact bI_nar _) dX4_size_53 ?_
    exact ⟨by rw [show j = nt S i by omega], rfl⟩
  | n + 1, j, hj => by
    obtain ⟨fsl, hlo⟩ := hl.obj
    have hjl : j < ts.length := by omega
    have hk := hts j ts[j] (List.getElem?_eq_getElem hjl)
    refine Z.iload_n ok dX4_size_4 rfl ?_
    refine Z.aload_n ok dX4_size_5 rfl (by first | exact isRf.r _ | exact isRf.n | exact isRf.v _ | assumption) ?_
    refine Z.get (ci := 3) (C := RX4) (T := TX4) (N := 3) ok (by first | assumption | exact ws_s | exact hT _ (by assumption) | (rw [ws_n (by assumption)]; assumption)) rfl in_X4 0 (by decide) q1133 (Or.inl rfl) (by rfl) dX4_size_6 ?_
    refine Z.callF (ci := 6) (q := (RJ2, TJ2, 3)) (C := RJ2) ok (alistSize_ct hl) hlo rfl rfl q186 ⟨q145, q144, q150, q148, q146⟩ q149 (Or.inl q147) q19 q151 nkF_List_size rfl (by decide) (by first | exact Nat.le_of_ble_eq_true rfl | simp [Value.category, cat_rf]) (Nat.le_refl _) (Nat.le_refl _) dX4_size_9 rfl ZX.no (fun v w1 hr => ?_)
    obtain ⟨rfl, rfl⟩ := hr
    refine Z.icmp_ge (tgt := 52) ok dX4_size_14 (by decide) (fun hc => absurd hc (nI_ge (by omega) (by omega))) (fun _ => ?_)
    refine Z.iload_n ok dX4_size_17 rfl ?_
    refine Z.aload_n ok dX4_size_18 rfl (by first | exact isRf.r _ | exact isRf.n | exact isRf.v _ | assumption) ?_
    refine Z.get (ci := 3) (C := RX4) (T := TX4) (N := 3) ok (by first | assumption | exact ws_s | exact hT _ (by assumption) | (rw [ws_n (by assumption)]; assumption)) rfl in_X4 0 (by decide) q1133 (Or.inl rfl) (by rfl) dX4_size_19 ?_
    refine Z.iload_n ok dX4_size_22 rfl ?_
    refine Z.callF (ci := 6) (q := (RJ2, TJ2, 3)) (C := RJ2) ok (alistGet_ct hl (List.getElem?_eq_getElem hjl) (by omega)) hlo rfl rfl q188 ⟨q155, q154, q159, q157, q146⟩ q158 (Or.inl q156) q19 q160 nkF_List_get rfl (by decide) (by first | exact Nat.le_of_ble_eq_true rfl | simp [Value.category, cat_rf]) (Nat.le_refl _) (Nat.le_refl _) dX4_size_23 rfl ZX.no (fun v w1 hr => ?_)
    obtain ⟨rfl, rfl⟩ := hr
    have e3 : nI j + Int32.ofInt 1 = nI (j + 1) := nI_1 j
    have hih := pz_loop ok hQ hp hl hlen h4 hts n (j + 1) (by omega)
    rw [← e3] at hih
    rcases hk with ⟨b1, hk⟩ | ⟨b1, r, ht, hk⟩
    · have hk0 := hk
      unfold isRng at hk0
      refine Z.castY (ci := 4) (q := (RX6, TX6, 3)) ok hk0 rfl q202 q189 dX4_size_28 ?_
      refine Z.callFD (ci := 4) (q := (RX6, TX6, 3)) (C := RX6) ok (rngPlain_ct hk) hk0 rfl rfl q942 ⟨q944, q943, q952, q950, q202⟩ q951 (fun U h => h.1.2.2) q39 q953 nkF_AlertIndex_Test_isPlain rfl (by decide) (by first | exact Nat.le_of_ble_eq_true rfl | simp [Value.category, cat_rf]) (Nat.le_refl _) (Nat.le_refl _) dX4_size_31 rfl ZX.no (fun v w1 hr => ?_)
      obtain ⟨rfl, rfl⟩ := hr
      refine Z.if_eq (tgt := 43) ok dX4_size_36 (by decide) (fun hc => absurd hc (by decide)) (fun _ => ?_)
      refine Z.iconst_1 ok dX4_size_39 ?_
      refine Z.goto (tgt := 44) ok dX4_size_40 (by decide) ?_
      refine Z.iadd ok dX4_size_44 ?_
      refine Z.istore_n (i := 1) ok dX4_size_45 rfl (by decide) ?_
      refine Z.iinc ok dX4_size_46 rfl rfl ?_
      refine Z.goto (tgt := 4) ok dX4_size_49 (by decide) ?_
      have e4 : plainN S i (j + 1) = plainN S i j + 1 := by rw [plainN, if_pos b1]
      rw [e4, ← nI_1] at hih
      exact hih
    · refine Z.castY (ci := 5) (q := (RX7, TX7, 1)) ok ht rfl q194 q189 dX4_size_28 ?_
      refine Z.callF (ci := 5) (q := (RX7, TX7, 1)) (C := RX7) ok (barPlain_ct ht) ht rfl rfl q942 ⟨q944, q943, q948, q946, q194⟩ q947 (Or.inl q945) q42 q949 nkF_AlertIndex_Test_isPlain rfl (by decide) (by first | exact Nat.le_of_ble_eq_true rfl | simp [Value.category, cat_rf]) (Nat.le_refl _) (Nat.le_refl _) dX4_size_31 rfl ZX.no (fun v w1 hr => ?_)
      obtain ⟨rfl, rfl⟩ := hr
      refine Z.if_eq (tgt := 43) ok dX4_size_36 (by decide) (fun _ => ?_) (fun hc => absurd rfl hc)
      refine Z.iconst_0 ok dX4_size_43 ?_
      refine Z.iadd ok dX4_size_44 ?_
      refine Z.istore_n (i := 1) ok dX4_size_45 rfl (by decide) ?_
      refine Z.iinc ok dX4_size_46 rfl rfl ?_
      refine Z.goto (tgt := 4) ok dX4_size_49 (by decide) ?_
      have e4 : plainN S i (j + 1) = plainN S i j := by rw [plainN, if_neg (by rw [b1]; decide)]; rfl
      rw [e4] at hih
      have e5 : nI (plainN S i j) + 0 = nI (plainN S i j) := by simp
      rw [← e5] at hih
      exact hih
theorem prdSize_ct {i p : Nat} (h : isPrd g w S i p) : Ct g yX4_size cX4_size 3 (some .int) 5 0 0 [.ref p] w (PW (rI (nI (plainN S i (nt S i)))) w) noX := by
  refine Ct.of RX4 "size" ⟨rfl, rfl⟩ (by decide +kernel) (by simp [Value.category] <;> exact cat_rf _) (Nat.le_of_ble_eq_true rfl) (fun x ok hQ hN => ?_)
  show Z g x 3 0 [some (.ref p), none, none] [] w 0 0
  obtain ⟨l, ts, fd, hp, hl, hlen, h4, hts⟩ := h
  refine Z.iconst_0 ok dX4_size_0 ?_
  refine Z.istore_n (i := 1) ok dX4_size_1 rfl (by decide) ?_
  refine Z.iconst_0 ok dX4_size_2 ?_
  refine Z.istore_n (i := 2) ok dX4_size_3 rfl (by decide) ?_
  exact pz_loop ok hQ hp hl hlen h4 hts (nt S i) 0 (by omega)
/-- no barred test bars it -/
def openB (S : St) (i : Nat) : Bool := (List.range (nt S i)).all fun t => decide (S 14 (4 * i + t) = 0) || tstB S (4 * i + t)
theorem po_loop {x : Cx} {i p l d td : Nat} {ts : List Nat} {fd : Int32} (ok : OK g x RX4 cX4_isOpen 4 5 (some .boolean)) (hQ : EndQ g x (PW (rI (bI (openB S i))) w) noX) (hp : w p = some (ob 3 [.ref l, .int (nI (i / 3)), .int fd], 16)) (hl : isL g w l 17 ts) (hlen : ts.length = nt S i) (h4 : nt S i ≤ 4) (hi : i < 60) (hts : ∀ k t, ts[k]? = some t → isTst w S (4 * i + k) t) (hd : w d = some (eI g 6 (S 3), td)) (hn : nmOk S) : ∀ (n j : Nat), j + n = nt S i → Z g x 4 4 [some (.ref p), some (.ref d), some (.int (bI ((List.range j).all fun t => decide (S 14 (4 * i + t) = 0) || tstB S (4 * i + t)))), some (.int (nI j))] [] w 0 0
  | 0, j, hj => by
    obtain ⟨fsl, hlo⟩ := hl.obj
    refine Z.iload_n ok dX4_isOpen_4 rfl ?_
    refine Z.aload_n ok dX4_isOpen_5 rfl (by first | exact isRf.r _ | exact isRf.n | exact isRf.v _ | assumption) ?_
    refine Z.get (ci := 3) (C := RX4) (T := TX4) (N := 3) ok (by first | assumption | exact ws_s | exact hT _ (by assumption) | (rw [ws_n (by assumption)]; assumption)) rfl in_X4 0 (by decide) q1133 (Or.inl rfl) (by rfl) dX4_isOpen_6 ?_
    refine Z.callF (ci := 6) (q := (RJ2, TJ2, 3)) (C := RJ2) ok (alistSize_ct hl) hlo rfl rfl q186 ⟨q145, q144, q150, q148, q146⟩ q149 (Or.inl q147) q19 q151 nkF_List_size rfl (by decide) (by first | exact Nat.le_of_ble_eq_true rfl | simp [Value.category, cat_rf]) (Nat.le_refl _) (Nat.le_refl _) dX4_isOpen_9 rfl ZX.no (fun v w1 hr => ?_)
    obtain ⟨rfl, rfl⟩ := hr
    refine Z.icmp_ge (tgt := 74) ok dX4_isOpen_14 (by decide) (fun _ => ?_) (fun hc => absurd (nI_le (by omega) (by omega)) hc)
    refine Z.iload_n ok dX4_isOpen_74 rfl ?_
    refine Z.iret ok hQ (by first | rfl | exact bI_nar _) dX4_isOpen_75 ?_
    refine ⟨?_, rfl⟩
    have : j = nt S i := by omega
    rw [this]
    rfl
  | n + 1, j, hj => by
    obtain ⟨fsl, hlo⟩ := hl.obj
    have hjl : j < ts.length := by omega
    have hk := hts j ts[j] (List.getElem?_eq_getElem hjl)
    refine Z.iload_n ok dX4_isOpen_4 rfl ?_
    refine Z.aload_n ok dX4_isOpen_5 rfl (by first | exact isRf.r _ | exact isRf.n | exact isRf.v _ | assumption) ?_
    refine Z.get (ci := 3) (C := RX4) (T := TX4) (N := 3) ok (by first | assumption | exact ws_s | exact hT _ (by assumption) | (rw [ws_n (by assumption)]; assumption)) rfl in_X4 0 (by decide) q1133 (Or.inl rfl) (by rfl) dX4_isOpen_6 ?_
    refine Z.callF (ci := 6) (q := (RJ2, TJ2, 3)) (C := RJ2) ok (alistSize_ct hl) hlo rfl rfl q186 ⟨q145, q144, q150, q148, q146⟩ q149 (Or.inl q147) q19 q151 nkF_List_size rfl (by decide) (by first | exact Nat.le_of_ble_eq_true rfl | simp [Value.category, cat_rf]) (Nat.le_refl _) (Nat.le_refl _) dX4_isOpen_9 rfl ZX.no (fun v w1 hr => ?_)
    obtain ⟨rfl, rfl⟩ := hr
    refine Z.icmp_ge (tgt := 74) ok dX4_isOpen_14 (by decide) (fun hc => absurd hc (nI_ge (by omega) (by omega))) (fun _ => ?_)
    refine Z.iload_n ok dX4_isOpen_17 rfl ?_
    refine Z.aload_n ok dX4_isOpen_18 rfl (by first | exact isRf.r _ | exact isRf.n | exact isRf.v _ | assumption) ?_
    refine Z.get (ci := 3) (C := RX4) (T := TX4) (N := 3) ok (by first | assumption | exact ws_s | exact hT _ (by assumption) | (rw [ws_n (by assumption)]; assumption)) rfl in_X4 0 (by decide) q1133 (Or.inl rfl) (by rfl) dX4_isOpen_19 ?_
    refine Z.iload_n ok dX4_isOpen_22 rfl ?_
    refine Z.callF (ci := 6) (q := (RJ2, TJ2, 3)) (C := RJ2) ok (alistGet_ct hl (List.getElem?_eq_getElem hjl) (by omega)) hlo rfl rfl q188 ⟨q155, q154, q159, q157, q146⟩ q158 (Or.inl q156) q19 q160 nkF_List_get rfl (by decide) (by first | exact Nat.le_of_ble_eq_true rfl | simp [Value.category, cat_rf]) (Nat.le_refl _) (Nat.le_refl _) dX4_isOpen_23 rfl ZX.no (fun v w1 hr => ?_)
    obtain ⟨rfl, rfl⟩ := hr
    have nx : ∀ b : Bool, b = (decide (S 14 (4 * i + j) = 0) || tstB S (4 * i + j)) → Z g x 4 66 [some (.ref p), some (.ref d), some (.int (bI ((List.range j).all fun t => decide (S 14 (4 * i + t) = 0) || tstB S (4 * i + t)))), some (.int (nI j))] [.int (bI b), .int (bI ((List.range j).all fun t => decide (S 14 (4 * i + t) = 0) || tstB S (4 * i + t)))] w 0 0 := by
      intro b hb
      subst hb
      refine Z.iand ok dX4_isOpen_66 ?_
      have e1 : bI ((List.range j).all fun t => decide (S 14 (4 * i + t) = 0) || tstB S (4 * i + t)) &&& bI (decide (S 14 (4 * i + j) = 0) || tstB S (4 * i + j)) = bI ((List.range (j + 1)).all fun t => decide (S 14 (4 * i + t) = 0) || tstB S (4 * i + t)) := by
        rw [all_step]
        cases (List.range j).all fun t => decide (S 14 (4 * i + t) = 0) || tstB S (4 * i + t) <;> cases (decide (S 14 (4 * i + j) = 0) || tstB S (4 * i + j)) <;> rfl
      rw [e1]
      refine Z.istore_n (i := 2) ok dX4_isOpen_67 rfl (by decide) ?_
      refine Z.iinc ok dX4_isOpen_68 rfl rfl ?_
      refine Z.goto (tgt := 4) ok dX4_isOpen_71 (by decide) ?_
      have e3 : nI j + Int32.ofInt 1 = nI (j + 1) := nI_1 j
      have hk := po_loop ok hQ hp hl hlen h4 hi hts hd hn n (j + 1) (by omega)
      rw [← e3] at hk
      exact hk
    rcases hk with ⟨b1, hk⟩ | ⟨b1, r, ht, hk⟩
    · have hk0 := hk
      unfold isRng at hk0
      refine Z.castY (ci := 4) (q := (RX6, TX6, 3)) ok hk0 rfl q202 q189 dX4_isOpen_28 ?_
      refine Z.callFD (ci := 4) (q := (RX6, TX6, 3)) (C := RX6) ok (rngPlain_ct hk) hk0 rfl rfl q942 ⟨q944, q943, q952, q950, q202⟩ q951 (fun U h => h.1.2.2) q39 q953 nkF_AlertIndex_Test_isPlain rfl (by decide) (by first | exact Nat.le_of_ble_eq_true rfl | simp [Value.category, cat_rf]) (Nat.le_refl _) (Nat.le_refl _) dX4_isOpen_31 rfl ZX.no (fun v w1 hr => ?_)
      obtain ⟨rfl, rfl⟩ := hr
      refine Z.if_ne (tgt := 61) ok dX4_isOpen_36 (by decide) (fun _ => ?_) (fun hc => absurd hc (by decide))
      refine Z.iconst_1 ok dX4_isOpen_61 ?_
      refine Z.goto (tgt := 66) ok dX4_isOpen_62 (by decide) ?_
      exact nx true (by rw [b1]; rfl)
    · refine Z.castY (ci := 5) (q := (RX7, TX7, 1)) ok ht rfl q194 q189 dX4_isOpen_28 ?_
      refine Z.callF (ci := 5) (q := (RX7, TX7, 1)) (C := RX7) ok (barPlain_ct ht) ht rfl rfl q942 ⟨q944, q943, q948, q946, q194⟩ q947 (Or.inl q945) q42 q949 nkF_AlertIndex_Test_isPlain rfl (by decide) (by first | exact Nat.le_of_ble_eq_true rfl | simp [Value.category, cat_rf]) (Nat.le_refl _) (Nat.le_refl _) dX4_isOpen_31 rfl ZX.no (fun v w1 hr => ?_)
      obtain ⟨rfl, rfl⟩ := hr
      refine Z.if_ne (tgt := 61) ok dX4_isOpen_36 (by decide) (fun hc => absurd rfl hc) (fun _ => ?_)
      refine Z.aload_n ok dX4_isOpen_39 rfl (by first | exact isRf.r _ | exact isRf.n | exact isRf.v _ | assumption) ?_
      refine Z.get (ci := 3) (C := RX4) (T := TX4) (N := 3) ok (by first | assumption | exact ws_s | exact hT _ (by assumption) | (rw [ws_n (by assumption)]; assumption)) rfl in_X4 0 (by decide) q1133 (Or.inl rfl) (by rfl) dX4_isOpen_40 ?_
      refine Z.iload_n ok dX4_isOpen_43 rfl ?_
      refine Z.callF (ci := 6) (q := (RJ2, TJ2, 3)) (C := RJ2) ok (alistGet_ct hl (List.getElem?_eq_getElem hjl) (by omega)) hlo rfl rfl q188 ⟨q155, q154, q159, q157, q146⟩ q158 (Or.inl q156) q19 q160 nkF_List_get rfl (by decide) (by first | exact Nat.le_of_ble_eq_true rfl | simp [Value.category, cat_rf]) (Nat.le_refl _) (Nat.le_refl _) dX4_isOpen_44 rfl ZX.no (fun v w1 hr => ?_)
      obtain ⟨rfl, rfl⟩ := hr
      refine Z.castY (ci := 5) (q := (RX7, TX7, 1)) ok ht rfl q194 q189 dX4_isOpen_49 ?_
      refine Z.aload_n ok dX4_isOpen_52 rfl (by first | exact isRf.r _ | exact isRf.n | exact isRf.v _ | assumption) ?_
      refine Z.callF (ci := 5) (q := (RX7, TX7, 1)) (C := RX7) ok (barTrue_ct ht hk hd (hn _ (by omega))) ht rfl rfl q191 ⟨q193, q192, q198, q196, q194⟩ q197 (Or.inl q195) q42 q199 nkF_AlertIndex_Test_isTrue rfl (by decide) (by first | exact Nat.le_of_ble_eq_true rfl | simp [Value.category, cat_rf]) (Nat.le_refl _) (Nat.le_refl _) dX4_isOpen_53 rfl ZX.no (fun v w1 hr => ?_)
      obtain ⟨rfl, rfl⟩ := hr
      have e5 : (!rngT S (4 * i + j)) = (decide (S 14 (4 * i + j) = 0) || tstB S (4 * i + j)) := by
        rw [tstB_eq, b1]
        cases rngT S (4 * i + j) <;> rfl
      by_cases hb : bI (!rngT S (4 * i + j)) = 0
      · refine Z.if_eq (tgt := 65) ok dX4_isOpen_58 (by decide) (fun _ => ?_) (fun hc => absurd hb hc)
        refine Z.iconst_0 ok dX4_isOpen_65 ?_
        exact nx false (by rw [← e5, bI_0.mp hb])
      · refine Z.if_eq (tgt := 65) ok dX4_isOpen_58 (by decide) (fun hc => absurd hc hb) (fun _ => ?_)
        refine Z.iconst_1 ok dX4_isOpen_61 ?_
        refine Z.goto (tgt := 66) ok dX4_isOpen_62 (by decide) ?_
        exact nx true (by rw [← e5, bI_n0.mp hb])
theorem prdOpen_ct {i p d td : Nat} (h : isPrd g w S i p) (hi : i < 60) (hd : w d = some (eI g 6 (S 3), td)) (hn : nmOk S) : Ct g yX4_isOpen cX4_isOpen 4 (some .boolean) 5 0 0 [.ref p, .ref d] w (PW (rI (bI (openB S i))) w) noX := by
  refine Ct.of RX4 "isOpen" ⟨rfl, rfl⟩ (by decide +kernel) (by simp [Value.category] <;> exact cat_rf _) (Nat.le_of_ble_eq_true rfl) (fun x ok hQ hN => ?_)
  show Z g x 4 0 [some (.ref p), some (.ref d), none, none] [] w 0 0
  obtain ⟨l, ts, fd, hp, hl, hlen, h4, hts⟩ := h
  refine Z.iconst_1 ok dX4_isOpen_0 ?_
  refine Z.istore_n (i := 2) ok dX4_isOpen_1 rfl (by decide) ?_
  refine Z.iconst_0 ok dX4_isOpen_2 ?_
  refine Z.istore_n (i := 3) ok dX4_isOpen_3 rfl (by decide) ?_
  exact po_loop ok hQ hp hl hlen h4 hi hts hd hn (nt S i) 0 (by omega)
end PROD
