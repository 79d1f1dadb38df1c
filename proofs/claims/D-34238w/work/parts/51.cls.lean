/-! ===== ALERTINDEX: checks, find, what is read ===== -/
abbrev cIAE : String := "java/lang/IllegalArgumentException"
abbrev cISE : String := "java/lang/IllegalStateException"
abbrev cIOB : String := "java/lang/IndexOutOfBoundsException"
section CLS
variable {g : Gx} {w : Wd} {S : St}
def WX (w : Wd) (b : Bool) : Option Value → Wd → Prop := fun o w' => o = none ∧ w = w' ∧ b = true
def XX (w : Wd) (c : String) (b : Bool) : String → Wd → Prop := fun E w' => E = c ∧ w = w' ∧ b = false
theorem want_ct (b : Bool) : Ct g yX1_want cX1_want 1 none 1 1 6 [.int (bI b)] w (WX w b) (XX w cIAE b) := by
  refine Ct.of RX1 "want" ⟨rfl, rfl⟩ (by decide +kernel) (by simp [Value.category] <;> exact cat_rf _) (Nat.le_of_ble_eq_true rfl) (fun x ok hQ hN => ?_)
  show Z g x 1 0 [some (.int (bI b))] [] w 1 6
  refine Z.iload_n ok dX1_want_0 rfl ?_
  cases b with
  | true =>
    refine Z.if_ne (tgt := 12) ok dX1_want_1 (by decide) (fun _ => ?_) (fun hc => absurd hc (by decide))
    refine Z.vret ok hQ rfl dX1_want_12 ?_
    exact ⟨rfl, rfl, rfl⟩
  | false =>
    refine Z.if_ne (tgt := 12) ok dX1_want_1 (by decide) (fun hc => absurd rfl hc) (fun _ => ?_)
    exact Z.throw0 (names := ["java/lang/RuntimeException", "java/lang/Exception"]) ok hQ (by decide +kernel) (by decide +kernel) q1159 q38 (places_tbl thrW_IAE) thrG_IAE (by decide) (by decide) dX1_want_4 dX1_want_7 dX1_want_8 dX1_want_11 (by omega) (by omega) ⟨rfl, rfl, rfl⟩
theorem allow_ct (b : Bool) : Ct g yX1_allow cX1_allow 1 none 1 1 6 [.int (bI b)] w (WX w b) (XX w cISE b) := by
  refine Ct.of RX1 "allow" ⟨rfl, rfl⟩ (by decide +kernel) (by simp [Value.category] <;> exact cat_rf _) (Nat.le_of_ble_eq_true rfl) (fun x ok hQ hN => ?_)
  show Z g x 1 0 [some (.int (bI b))] [] w 1 6
  refine Z.iload_n ok dX1_allow_0 rfl ?_
  cases b with
  | true =>
    refine Z.if_ne (tgt := 12) ok dX1_allow_1 (by decide) (fun _ => ?_) (fun hc => absurd hc (by decide))
    refine Z.vret ok hQ rfl dX1_allow_12 ?_
    exact ⟨rfl, rfl, rfl⟩
  | false =>
    refine Z.if_ne (tgt := 12) ok dX1_allow_1 (by decide) (fun hc => absurd rfl hc) (fun _ => ?_)
    exact Z.throw0 (names := ["java/lang/RuntimeException", "java/lang/Exception"]) ok hQ (by decide +kernel) (by decide +kernel) q992 q26 (places_tbl thrW_ISE) thrG_ISE (by decide) (by decide) dX1_allow_4 dX1_allow_7 dX1_allow_8 dX1_allow_11 (by omega) (by omega) ⟨rfl, rfl, rfl⟩
def exB (k n : Int32) : Bool := decide (0 ≤ k) && decide (k < n)
theorem exists_ct (k n : Int32) : Ct g yX1_exists cX1_exists 2 none 1 1 6 [.int k, .int n] w (WX w (exB k n)) (XX w cIOB (exB k n)) := by
  refine Ct.of RX1 "exists" ⟨rfl, rfl⟩ (by decide +kernel) (by simp [Value.category] <;> exact cat_rf _) (Nat.le_of_ble_eq_true rfl) (fun x ok hQ hN => ?_)
  show Z g x 2 0 [some (.int k), some (.int n)] [] w 1 6
  have thr : exB k n = false → Z g x 2 9 [some (.int k), some (.int n)] [] w 1 6 := fun hb =>
    Z.throw0 (names := ["java/lang/RuntimeException", "java/lang/Exception"]) ok hQ (by decide +kernel) (by decide +kernel) q1111 q32 (places_tbl thrW_IOB) thrG_IOB (by decide) (by decide) dX1_exists_9 dX1_exists_12 dX1_exists_13 dX1_exists_16 (by omega) (by omega) ⟨rfl, rfl, hb⟩
  refine Z.iload_n ok dX1_exists_0 rfl ?_
  by_cases h0 : k < 0
  · refine Z.if_lt (tgt := 9) ok dX1_exists_1 (by decide) (fun _ => ?_) (fun hc => absurd h0 hc)
    exact thr (by unfold exB; rw [decide_eq_false (Int32.not_le.mpr h0)]; rfl)
  · refine Z.if_lt (tgt := 9) ok dX1_exists_1 (by decide) (fun hc => absurd hc h0) (fun _ => ?_)
    refine Z.iload_n ok dX1_exists_4 rfl ?_
    refine Z.iload_n ok dX1_exists_5 rfl ?_
    by_cases h1 : k < n
    · refine Z.icmp_lt (tgt := 17) ok dX1_exists_6 (by decide) (fun _ => ?_) (fun hc => absurd h1 hc)
      refine Z.vret ok hQ rfl dX1_exists_17 ?_
      exact ⟨rfl, rfl, by unfold exB; rw [decide_eq_true (Int32.not_lt.mp h0), decide_eq_true h1]; rfl⟩
    · refine Z.icmp_lt (tgt := 17) ok dX1_exists_6 (by decide) (fun hc => absurd hc h1) (fun _ => ?_)
      exact thr (by unfold exB; rw [decide_eq_false h1, Bool.and_false])
theorem isIn_ct (v lo hi : Int32) : Ct g yX1_isIn cX1_isIn 3 (some .boolean) 1 0 0 [.int v, .int lo, .int hi] w (PW (rI (bI (inB v lo hi))) w) noX := by
  refine Ct.of RX1 "isIn" ⟨rfl, rfl⟩ (by decide +kernel) (by simp [Value.category] <;> exact cat_rf _) (Nat.le_of_ble_eq_true rfl) (fun x ok hQ hN => ?_)
  show Z g x 3 0 [some (.int v), some (.int lo), some (.int hi)] [] w 0 0
  refine Z.iload_n ok dX1_isIn_0 rfl ?_
  refine Z.iload_n ok dX1_isIn_1 rfl ?_
  by_cases h1 : v < lo
  · refine Z.icmp_lt (tgt := 14) ok dX1_isIn_2 (by decide) (fun _ => ?_) (fun hc => absurd h1 hc)
    refine Z.iconst_0 ok dX1_isIn_14 ?_
    refine Z.iret ok hQ (by first | rfl | exact bI_nar _) dX1_isIn_15 ?_
    refine ⟨?_, rfl⟩
    have : inB v lo hi = false := by unfold inB; rw [decide_eq_false (Int32.not_le.mpr h1)]; rfl
    rw [this]
    rfl
  · refine Z.icmp_lt (tgt := 14) ok dX1_isIn_2 (by decide) (fun hc => absurd hc h1) (fun _ => ?_)
    refine Z.iload_n ok dX1_isIn_5 rfl ?_
    refine Z.iload_n ok dX1_isIn_6 rfl ?_
    by_cases h2 : hi < v
    · refine Z.icmp_gt (tgt := 14) ok dX1_isIn_7 (by decide) (fun _ => ?_) (fun hc => absurd h2 hc)
      refine Z.iconst_0 ok dX1_isIn_14 ?_
      refine Z.iret ok hQ (by first | rfl | exact bI_nar _) dX1_isIn_15 ?_
      refine ⟨?_, rfl⟩
      have : inB v lo hi = false := by unfold inB; rw [decide_eq_false (Int32.not_le.mpr h2), Bool.and_false]
      rw [this]
      rfl
    · refine Z.icmp_gt (tgt := 14) ok dX1_isIn_7 (by decide) (fun hc => absurd hc h2) (fun _ => ?_)
      refine Z.iconst_1 ok dX1_isIn_10 ?_
      refine Z.goto (tgt := 15) ok dX1_isIn_11 (by decide) ?_
      refine Z.iret ok hQ (by first | rfl | exact bI_nar _) dX1_isIn_15 ?_
      refine ⟨?_, rfl⟩
      have : inB v lo hi = true := by unfold inB; rw [decide_eq_true (Int32.not_lt.mp h1), decide_eq_true (Int32.not_lt.mp h2)]; rfl
      rw [this]
      rfl
/-- the class's object, what is read of it: lq its list of questions (qs), d its draft, mm its index, li its list of products -/
def isAb (g : Gx) (w : Wd) (a : Nat) (S : St) (lq d mm li : Nat) (qs : List Nat) : Prop := w a = some (ob 0 [.ref lq, .ref d, .ref mm, .ref li, .int (S 1 0)], 10) ∧ w d = some (eI g 6 (S 3), 11) ∧ isL g w lq 12 qs ∧ qs.length = nq S ∧ ∀ j q, qs[j]? = some q → ∃ ps, isQst g w S j q ps
/-- find: the question's place and address -/
def FdP (g : Gx) (w : Wd) (S : St) (qs : List Nat) (qv : Int32) : Option Value → Wd → Prop := fun o w' => w = w' ∧ isQ S qv = true ∧ ∃ i q, qv = nI i ∧ i < nq S ∧ i < 20 ∧ S 4 i = 0 ∧ o = some (.ref q) ∧ qs[i]? = some q
theorem isQ_ex (hI : InvA S) {qv : Int32} (h : exB qv (nI (nq S)) = false) : isQ S qv = false := by
  cases hq : isQ S qv with
  | false => rfl
  | true =>
    obtain ⟨i, hi, rfl, -⟩ := (isQ_iff hI).mp hq
    have := hI.1.2
    unfold exB at h
    rw [decide_eq_true (nI_lt hi (by omega)), decide_eq_true (nI_pos' (by omega))] at h
    cases h
theorem exB_nI {qv : Int32} {n : Nat} (hn : n < 2 ^ 31) (h : exB qv (nI n) = true) : ∃ i, i < n ∧ qv = nI i := by
  unfold exB at h
  rw [Bool.and_eq_true] at h
  obtain ⟨i, hi31, rfl⟩ := nI_of (Int32.not_lt.mpr (of_decide_eq_true h.1))
  exact ⟨i, (nI_ltI hi31 hn).mp (of_decide_eq_true h.2), rfl⟩
theorem find_ctA {a lq d mm li : Nat} {qs : List Nat} (hA : isAb g w a S lq d mm li qs) (hI : InvA S) (qv : Int32) : Ct g yX1_find cX1_find 3 (some (.object "AlertIndex$Question")) 4 2 12 [.ref a, .int qv] w (FdP g w S qs qv) (XX w cIOB (isQ S qv)) := by
  refine Ct.of RX1 "find" ⟨rfl, rfl⟩ (by decide +kernel) (by simp [Value.category] <;> exact cat_rf _) (Nat.le_of_ble_eq_true rfl) (fun x ok hQ hN => ?_)
  show Z g x 3 0 [some (.ref a), some (.int qv), none] [] w 2 12
  obtain ⟨ha, hd, hl, hlen, hq⟩ := hA
  obtain ⟨⟨hn1, hn2⟩, -, -, -, -, -, h4, -⟩ := id hI
  obtain ⟨fsl, hlo⟩ := hl.obj
  refine Z.iload_n ok dX1_find_0 rfl ?_
  refine Z.aload_n ok dX1_find_1 rfl (by first | exact isRf.r _ | exact isRf.n | exact isRf.v _ | assumption) ?_
  refine Z.get (ci := 0) (C := RX1) (T := TX1) (N := 5) ok (by first | assumption | exact ws_s | exact hT _ (by assumption) | (rw [ws_n (by assumption)]; assumption)) rfl in_X1 0 (by decide) q122 (Or.inl rfl) (by rfl) dX1_find_2 ?_
  refine Z.callF (kc' := 2) (ks' := 12) (ci := 6) (q := (RJ2, TJ2, 3)) (C := RJ2) ok (alistSize_ct hl) hlo rfl rfl q143 ⟨q145, q144, q150, q148, q146⟩ q149 (Or.inl q147) q19 q151 nkF_List_size rfl (by decide) (by first | exact Nat.le_of_ble_eq_true rfl | simp [Value.category, cat_rf]) (by omega) (by omega) dX1_find_5 rfl ZX.no (fun v w1 hr => ?_)
  obtain ⟨rfl, rfl⟩ := hr
  rw [hlen]
  refine Z.callS (kc' := 1) (ks' := 6) ok (exists_ct qv (nI (nq S))) q1108 q1109 q16 q1110 nk_X1_exists rfl (by decide) (by first | exact Nat.le_of_ble_eq_true rfl | simp [Value.category, cat_rf]) (by omega) (by omega) dX1_find_10 rfl (fun E q w' h => ZX.out ok hQ ⟨h.1, h.2.1, isQ_ex hI h.2.2⟩) (fun v w1 hr => ?_)
  obtain ⟨rfl, rfl, hb⟩ := hr
  obtain ⟨i, hi, rfl⟩ := exB_nI (by omega) hb
  have hiL : i < qs.length := by omega
  have hgi := List.getElem?_eq_getElem hiL
  obtain ⟨ps, hqi⟩ := hq i _ hgi
  obtain ⟨l, hqo, -⟩ := id hqi
  refine Z.aload_n ok dX1_find_13 rfl (by first | exact isRf.r _ | exact isRf.n | exact isRf.v _ | assumption) ?_
  refine Z.get (ci := 0) (C := RX1) (T := TX1) (N := 5) ok (by first | assumption | exact ws_s | exact hT _ (by assumption) | (rw [ws_n (by assumption)]; assumption)) rfl in_X1 0 (by decide) q122 (Or.inl rfl) (by rfl) dX1_find_14 ?_
  refine Z.iload_n ok dX1_find_17 rfl ?_
  refine Z.callF (kc' := 1) (ks' := 6) (ci := 6) (q := (RJ2, TJ2, 3)) (C := RJ2) ok (alistGet_ct hl hgi (by omega)) hlo rfl rfl q153 ⟨q155, q154, q159, q157, q146⟩ q158 (Or.inl q156) q19 q160 nkF_List_get rfl (by decide) (by first | exact Nat.le_of_ble_eq_true rfl | simp [Value.category, cat_rf]) (by omega) (by omega) dX1_find_18 rfl ZX.no (fun v w1 hr => ?_)
  obtain ⟨rfl, rfl⟩ := hr
  refine Z.castS (ci := 2) (q := (RX3, TX3, 6)) ok hqo rfl rfl q171 dX1_find_23 ?_
  refine Z.astore_n (i := 2) ok dX1_find_26 rfl (by decide) (by first | exact isRf.r _ | exact isRf.n | exact isRf.v _ | assumption) ?_
  refine Z.aload_n ok dX1_find_27 rfl (by first | exact isRf.r _ | exact isRf.n | exact isRf.v _ | assumption) ?_
  refine Z.get (ci := 2) (C := RX3) (T := TX3) (N := 6) ok hqo rfl in_X3 1 (by decide) q1022 (Or.inl rfl) (by rfl) dX1_find_28 ?_
  rcases h4 i (by omega) with h0 | h0
  · refine Z.if_eq (tgt := 38) ok dX1_find_31 (by decide) (fun _ => ?_) (fun hc => absurd h0 hc)
    refine Z.iconst_0 ok dX1_find_38 ?_
    refine Z.iconst_1 ok dX1_find_39 ?_
    refine Z.callS (kc' := 0) (ks' := 0) ok (exists_ct 0 1) q1108 q1109 q16 q1110 nk_X1_exists rfl (by decide) (by first | exact Nat.le_of_ble_eq_true rfl | simp [Value.category, cat_rf]) (by omega) (by omega) dX1_find_40 rfl (fun E q w' h => absurd h.2.2 (by decide)) (fun v w1 hr => ?_)
    obtain ⟨rfl, rfl, -⟩ := hr
    refine Z.aload_n ok dX1_find_43 rfl (by first | exact isRf.r _ | exact isRf.n | exact isRf.v _ | assumption) ?_
    refine Z.aret ok hQ (by first | exact Or.inl ⟨_, rfl⟩ | exact Or.inr ⟨_, rfl⟩) (by first | exact isRf.r _ | exact isRf.n | exact isRf.v _ | assumption) dX1_find_44 ?_
    exact ⟨rfl, (isQ_iff hI).mpr ⟨i, hi, rfl, h0⟩, i, _, rfl, hi, by omega, h0, rfl, hgi⟩
  · have hnq : isQ S (nI i) = false := by
      cases hc : isQ S (nI i) with
      | false => rfl
      | true =>
        obtain ⟨i', hi', e, h1⟩ := (isQ_iff hI).mp hc
        rw [← (nI_eq (by omega) (by omega)).mp e, h0] at h1
        cases h1
    refine Z.if_eq (tgt := 38) ok dX1_find_31 (by decide) (fun hc => absurd hc (by rw [h0]; decide)) (fun _ => ?_)
    refine Z.iconst_m1 ok dX1_find_34 ?_
    refine Z.goto (tgt := 39) ok dX1_find_35 (by decide) ?_
    refine Z.iconst_1 ok dX1_find_39 ?_
    refine Z.callS (kc' := 0) (ks' := 0) ok (exists_ct (-1) 1) q1108 q1109 q16 q1110 nk_X1_exists rfl (by decide) (by first | exact Nat.le_of_ble_eq_true rfl | simp [Value.category, cat_rf]) (by omega) (by omega) dX1_find_40 rfl (fun E q w' h => ZX.out ok hQ ⟨h.1, h.2.1, hnq⟩) (fun v w1 hr => ?_)
    exact absurd hr.2.2 (by decide)
/-- the readers -/
theorem minute_ctA {a lq d mm li : Nat} {qs : List Nat} (hA : isAb g w a S lq d mm li qs) : Ct g yX1_minute cX1_minute 1 (some .int) 1 0 0 [.ref a] w (PW (rI (S 1 0)) w) noX := by
  refine Ct.of RX1 "minute" ⟨rfl, rfl⟩ (by decide +kernel) (by simp [Value.category] <;> exact cat_rf _) (Nat.le_of_ble_eq_true rfl) (fun x ok hQ hN => ?_)
  show Z g x 1 0 [some (.ref a)] [] w 0 0
  obtain ⟨ha, -⟩ := hA
  refine Z.aload_n ok dX1_minute_0 rfl (by first | exact isRf.r _ | exact isRf.n | exact isRf.v _ | assumption) ?_
  refine Z.get (ci := 0) (C := RX1) (T := TX1) (N := 5) ok (by first | assumption | exact ws_s | exact hT _ (by assumption) | (rw [ws_n (by assumption)]; assumption)) rfl in_X1 4 (by decide) q126 (Or.inl rfl) (by rfl) dX1_minute_1 ?_
  refine Z.iret ok hQ (by first | rfl | exact bI_nar _) dX1_minute_4 ?_
  exact ⟨rfl, rfl⟩
theorem alerts_ctA {a lq d mm li : Nat} {qs : List Nat} (hA : isAb g w a S lq d mm li qs) (hI : InvA S) (qv : Int32) : Ct g yX1_alerts cX1_alerts 2 (some .int) 5 2 12 [.ref a, .int qv] w (fun o w' => w = w' ∧ isQ S qv = true ∧ o = rI (S 8 (qN qv))) (XX w cIOB (isQ S qv)) := by
  refine Ct.of RX1 "alerts" ⟨rfl, rfl⟩ (by decide +kernel) (by simp [Value.category] <;> exact cat_rf _) (Nat.le_of_ble_eq_true rfl) (fun x ok hQ hN => ?_)
  show Z g x 2 0 [some (.ref a), some (.int qv)] [] w 2 12
  have ha := hA.1
  have hd := hA.2.1
  have hqs := hA.2.2.2.2
  have hn : nmOk S := fun k hk => hI.2.2.2.1 k hk
  refine Z.aload_n ok dX1_alerts_0 rfl (by first | exact isRf.r _ | exact isRf.n | exact isRf.v _ | assumption) ?_
  refine Z.iload_n ok dX1_alerts_1 rfl ?_
  refine Z.callV (kc' := 0) (ks' := 0) (ci := 0) (q := (RX1, TX1, 5)) (C := RX1) ok (find_ctA hA hI qv) (by first | assumption | exact ws_s | exact hT _ (by assumption) | (rw [ws_n (by assumption)]; assumption)) rfl rfl q1104 q1106 (Or.inl qs5) q16 q1107 nk_X1_find rfl (by decide) (by first | exact Nat.le_of_ble_eq_true rfl | simp [Value.category, cat_rf]) (by omega) (by omega) dX1_alerts_2 rfl (fun E q w' h => ZX.out ok hQ h) (fun v w1 hr => ?_)
  obtain ⟨rfl, hq, i, q, rfl, hi, hi20, h0, rfl, hgi⟩ := hr
  obtain ⟨ps, l, hqo, -⟩ := hqs i _ hgi
  refine Z.get (ci := 2) (C := RX3) (T := TX3) (N := 6) ok hqo rfl in_X3 4 (by decide) q1028 (Or.inl rfl) (by rfl) dX1_alerts_5 ?_
  refine Z.iret ok hQ (by first | rfl | exact bI_nar _) dX1_alerts_8 ?_
  exact ⟨rfl, hq, by rw [qN, nI_clamp (by omega)]⟩
theorem batch_ctA {a lq d mm li : Nat} {qs : List Nat} (hA : isAb g w a S lq d mm li qs) (hI : InvA S) (qv : Int32) : Ct g yX1_batch cX1_batch 2 (some .int) 5 2 12 [.ref a, .int qv] w (fun o w' => w = w' ∧ isQ S qv = true ∧ o = rI (S 9 (qN qv))) (XX w cIOB (isQ S qv)) := by
  refine Ct.of RX1 "batch" ⟨rfl, rfl⟩ (by decide +kernel) (by simp [Value.category] <;> exact cat_rf _) (Nat.le_of_ble_eq_true rfl) (fun x ok hQ hN => ?_)
  show Z g x 2 0 [some (.ref a), some (.int qv)] [] w 2 12
  have ha := hA.1
  have hd := hA.2.1
  have hqs := hA.2.2.2.2
  have hn : nmOk S := fun k hk => hI.2.2.2.1 k hk
  refine Z.aload_n ok dX1_batch_0 rfl (by first | exact isRf.r _ | exact isRf.n | exact isRf.v _ | assumption) ?_
  refine Z.iload_n ok dX1_batch_1 rfl ?_
  refine Z.callV (kc' := 0) (ks' := 0) (ci := 0) (q := (RX1, TX1, 5)) (C := RX1) ok (find_ctA hA hI qv) (by first | assumption | exact ws_s | exact hT _ (by assumption) | (rw [ws_n (by assumption)]; assumption)) rfl rfl q1104 q1106 (Or.inl qs5) q16 q1107 nk_X1_find rfl (by decide) (by first | exact Nat.le_of_ble_eq_true rfl | simp [Value.category, cat_rf]) (by omega) (by omega) dX1_batch_2 rfl (fun E q w' h => ZX.out ok hQ h) (fun v w1 hr => ?_)
  obtain ⟨rfl, hq, i, q, rfl, hi, hi20, h0, rfl, hgi⟩ := hr
  obtain ⟨ps, l, hqo, -⟩ := hqs i _ hgi
  refine Z.get (ci := 2) (C := RX3) (T := TX3) (N := 6) ok hqo rfl in_X3 5 (by decide) q1030 (Or.inl rfl) (by rfl) dX1_batch_5 ?_
  refine Z.iret ok hQ (by first | rfl | exact bI_nar _) dX1_batch_8 ?_
  exact ⟨rfl, hq, by rw [qN, nI_clamp (by omega)]⟩
theorem isQuiet_ctA {a lq d mm li : Nat} {qs : List Nat} (hA : isAb g w a S lq d mm li qs) (hI : InvA S) (qv : Int32) : Ct g yX1_isQuiet cX1_isQuiet 2 (some .boolean) 5 2 12 [.ref a, .int qv] w (fun o w' => w = w' ∧ isQ S qv = true ∧ o = rI (bI (decide (S 1 0 < S 7 (qN qv))))) (XX w cIOB (isQ S qv)) := by
  refine Ct.of RX1 "isQuiet" ⟨rfl, rfl⟩ (by decide +kernel) (by simp [Value.category] <;> exact cat_rf _) (Nat.le_of_ble_eq_true rfl) (fun x ok hQ hN => ?_)
  show Z g x 2 0 [some (.ref a), some (.int qv)] [] w 2 12
  have ha := hA.1
  have hd := hA.2.1
  have hqs := hA.2.2.2.2
  have hn : nmOk S := fun k hk => hI.2.2.2.1 k hk
  refine Z.aload_n ok dX1_isQuiet_0 rfl (by first | exact isRf.r _ | exact isRf.n | exact isRf.v _ | assumption) ?_
  refine Z.get (ci := 0) (C := RX1) (T := TX1) (N := 5) ok (by first | assumption | exact ws_s | exact hT _ (by assumption) | (rw [ws_n (by assumption)]; assumption)) rfl in_X1 4 (by decide) q126 (Or.inl rfl) (by rfl) dX1_isQuiet_1 ?_
  refine Z.aload_n ok dX1_isQuiet_4 rfl (by first | exact isRf.r _ | exact isRf.n | exact isRf.v _ | assumption) ?_
  refine Z.iload_n ok dX1_isQuiet_5 rfl ?_
  refine Z.callV (kc' := 0) (ks' := 0) (ci := 0) (q := (RX1, TX1, 5)) (C := RX1) ok (find_ctA hA hI qv) (by first | assumption | exact ws_s | exact hT _ (by assumption) | (rw [ws_n (by assumption)]; assumption)) rfl rfl q1104 q1106 (Or.inl qs5) q16 q1107 nk_X1_find rfl (by decide) (by first | exact Nat.le_of_ble_eq_true rfl | simp [Value.category, cat_rf]) (by omega) (by omega) dX1_isQuiet_6 rfl (fun E q w' h => ZX.out ok hQ h) (fun v w1 hr => ?_)
  obtain ⟨rfl, hq, i, q, rfl, hi, hi20, h0, rfl, hgi⟩ := hr
  obtain ⟨ps, l, hqo, -⟩ := hqs i _ hgi
  refine Z.get (ci := 2) (C := RX3) (T := TX3) (N := 6) ok hqo rfl in_X3 3 (by decide) q1026 (Or.inl rfl) (by rfl) dX1_isQuiet_9 ?_
  have e : qN (nI i) = i := nI_clamp (by omega)
  by_cases hc0 : S 1 0 < S 7 i
  · refine Z.icmp_ge (tgt := 19) ok dX1_isQuiet_12 (by decide) (fun hc => absurd hc (Int32.not_le.mpr hc0)) (fun _ => ?_)
    refine Z.iconst_1 ok dX1_isQuiet_15 ?_
    refine Z.goto (tgt := 20) ok dX1_isQuiet_16 (by decide) ?_
    refine Z.iret ok hQ (by first | rfl | exact bI_nar _) dX1_isQuiet_20 ?_
    exact ⟨rfl, hq, by rw [e, decide_eq_true hc0]; rfl⟩
  · refine Z.icmp_ge (tgt := 19) ok dX1_isQuiet_12 (by decide) (fun _ => ?_) (fun hc => absurd (Int32.not_lt.mp hc0) hc)
    refine Z.iconst_0 ok dX1_isQuiet_19 ?_
    refine Z.iret ok hQ (by first | rfl | exact bI_nar _) dX1_isQuiet_20 ?_
    exact ⟨rfl, hq, by rw [e, decide_eq_false hc0]; rfl⟩
theorem satisfies_ctA {a lq d mm li : Nat} {qs : List Nat} (hA : isAb g w a S lq d mm li qs) (hI : InvA S) (qv : Int32) : Ct g yX1_satisfies cX1_satisfies 2 (some .boolean) 7 2 12 [.ref a, .int qv] w (fun o w' => w = w' ∧ isQ S qv = true ∧ o = rI (bI (doesB S (qN qv)))) (XX w cIOB (isQ S qv)) := by
  refine Ct.of RX1 "satisfies" ⟨rfl, rfl⟩ (by decide +kernel) (by simp [Value.category] <;> exact cat_rf _) (Nat.le_of_ble_eq_true rfl) (fun x ok hQ hN => ?_)
  show Z g x 2 0 [some (.ref a), some (.int qv)] [] w 2 12
  have ha := hA.1
  have hd := hA.2.1
  have hqs := hA.2.2.2.2
  have hn : nmOk S := fun k hk => hI.2.2.2.1 k hk
  refine Z.aload_n ok dX1_satisfies_0 rfl (by first | exact isRf.r _ | exact isRf.n | exact isRf.v _ | assumption) ?_
  refine Z.iload_n ok dX1_satisfies_1 rfl ?_
  refine Z.callV (kc' := 0) (ks' := 0) (ci := 0) (q := (RX1, TX1, 5)) (C := RX1) ok (find_ctA hA hI qv) (by first | assumption | exact ws_s | exact hT _ (by assumption) | (rw [ws_n (by assumption)]; assumption)) rfl rfl q1104 q1106 (Or.inl qs5) q16 q1107 nk_X1_find rfl (by decide) (by first | exact Nat.le_of_ble_eq_true rfl | simp [Value.category, cat_rf]) (by omega) (by omega) dX1_satisfies_2 rfl (fun E q w' h => ZX.out ok hQ h) (fun v w1 hr => ?_)
  obtain ⟨rfl, hq, i, q, rfl, hi, hi20, h0, rfl, hgi⟩ := hr
  obtain ⟨ps, hqi⟩ := hqs i _ hgi
  obtain ⟨l, hqo, -⟩ := id hqi
  have e : qN (nI i) = i := nI_clamp (by omega)
  refine Z.aload_n ok dX1_satisfies_5 rfl (by first | exact isRf.r _ | exact isRf.n | exact isRf.v _ | assumption) ?_
  refine Z.get (ci := 0) (C := RX1) (T := TX1) (N := 5) ok (by first | assumption | exact ws_s | exact hT _ (by assumption) | (rw [ws_n (by assumption)]; assumption)) rfl in_X1 1 (by decide) q123 (Or.inl rfl) (by rfl) dX1_satisfies_6 ?_
  refine Z.callV (kc' := 0) (ks' := 0) (ci := 2) (q := (RX3, TX3, 6)) (C := RX3) ok (qSat_ct hqi hi20 hd hn) hqo rfl rfl q172 q173 (Or.inl q174) q27 q175 nk_X3_isSatisfied rfl (by decide) (by first | exact Nat.le_of_ble_eq_true rfl | simp [Value.category, cat_rf]) (by omega) (by omega) dX1_satisfies_9 rfl ZX.no (fun v w1 hr => ?_)
  obtain ⟨rfl, rfl⟩ := hr
  refine Z.iret ok hQ (by first | rfl | exact bI_nar _) dX1_satisfies_12 ?_
  exact ⟨rfl, hq, by rw [e]⟩
theorem sizeOf_ctA {a lq d mm li : Nat} {qs : List Nat} (hA : isAb g w a S lq d mm li qs) (hI : InvA S) (qv : Int32) : Ct g yX1_sizeOf cX1_sizeOf 2 (some .int) 7 2 12 [.ref a, .int qv] w (fun o w' => w = w' ∧ isQ S qv = true ∧ o = rI (nI (sizeN S (qN qv)))) (XX w cIOB (isQ S qv)) := by
  refine Ct.of RX1 "sizeOf" ⟨rfl, rfl⟩ (by decide +kernel) (by simp [Value.category] <;> exact cat_rf _) (Nat.le_of_ble_eq_true rfl) (fun x ok hQ hN => ?_)
  show Z g x 2 0 [some (.ref a), some (.int qv)] [] w 2 12
  have ha := hA.1
  have hd := hA.2.1
  have hqs := hA.2.2.2.2
  have hn : nmOk S := fun k hk => hI.2.2.2.1 k hk
  refine Z.aload_n ok dX1_sizeOf_0 rfl (by first | exact isRf.r _ | exact isRf.n | exact isRf.v _ | assumption) ?_
  refine Z.iload_n ok dX1_sizeOf_1 rfl ?_
  refine Z.callV (kc' := 0) (ks' := 0) (ci := 0) (q := (RX1, TX1, 5)) (C := RX1) ok (find_ctA hA hI qv) (by first | assumption | exact ws_s | exact hT _ (by assumption) | (rw [ws_n (by assumption)]; assumption)) rfl rfl q1104 q1106 (Or.inl qs5) q16 q1107 nk_X1_find rfl (by decide) (by first | exact Nat.le_of_ble_eq_true rfl | simp [Value.category, cat_rf]) (by omega) (by omega) dX1_sizeOf_2 rfl (fun E q w' h => ZX.out ok hQ h) (fun v w1 hr => ?_)
  obtain ⟨rfl, hq, i, q, rfl, hi, hi20, h0, rfl, hgi⟩ := hr
  obtain ⟨ps, hqi⟩ := hqs i _ hgi
  obtain ⟨l, hqo, -⟩ := id hqi
  have e : qN (nI i) = i := nI_clamp (by omega)
  refine Z.callV (kc' := 0) (ks' := 0) (ci := 2) (q := (RX3, TX3, 6)) (C := RX3) ok (qSize_ct hqi) hqo rfl rfl q962 q963 (Or.inl q964) q27 q965 nk_X3_size rfl (by decide) (by first | exact Nat.le_of_ble_eq_true rfl | simp [Value.category, cat_rf]) (by omega) (by omega) dX1_sizeOf_5 rfl ZX.no (fun v w1 hr => ?_)
  obtain ⟨rfl, rfl⟩ := hr
  refine Z.iret ok hQ (by first | rfl | exact bI_nar _) dX1_sizeOf_8 ?_
  exact ⟨rfl, hq, by rw [e]⟩
end CLS
