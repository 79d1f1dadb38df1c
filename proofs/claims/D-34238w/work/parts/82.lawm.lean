/-! ===== THE LAW's METHODS (printed by tools/mk82.py) ===== -/
section LAWM
variable {g : Gx} {w w' w1 : Wd} {S S' : St}
/-- the reference and constants are left -/
def FrR (w w' : Wd) : Prop := ∀ b y t, w b = some (y, t) → t ≤ 2 ∨ (20 ≤ t ∧ t < 1000) → w' b = some (y, t)
/-- behind a law's method: it answers K; at K = 0 the class's object stands for S' and out holds R -/
def LwP (g : Gx) (w : Wd) (a ou : Nat) (S : St) (N : Nat) (K R : Int32) (S' : St) : Option Value → Wd → Prop := fun o w' => o = rI K ∧ FrR w w' ∧ (K = 0 → FS g w' a S' (N + 1) ∧ ∃ f, w' ou = some (eJ g 1 f, 3) ∧ f 0 = R.toInt64) ∧ (¬ K = 0 → FS g w' a S (N + 1) ∧ ∃ f, w' ou = some (eJ g 1 f, 3))
theorem LwP.ok {a ou N : Nat} {K R : Int32} {f : Nat → Int64} {v : Int64} (hk : K = 0) (hF : FS g w1 a S' (N + 1)) (hO : FrO w w1) (ho : w1 ou = some (eJ g 1 f, 3)) (hv : v = R.toInt64) : LwP g w a ou S N K R S' (rI 0) (wset w1 ou (eJ g 1 (vp_updL f (0 : Int32).toNatClampNeg v)) 3) := by
  have hk' : ∀ b y t, w1 b = some (y, t) → t ≠ 3 → wset w1 ou (eJ g 1 (vp_updL f (0 : Int32).toNatClampNeg v)) 3 b = some (y, t) := fun b y t hb ht => (ws_n (fun z => by rw [z, ho] at hb; cases hb; exact ht rfl)).trans hb
  refine ⟨by rw [hk], fun b y t hb hc => hk' b y t (hO b y t hb (by omega)) (by omega), fun _ => ⟨hF.out (fun b y t hb hc => hk' b y t hb (by omega)), _, ws_s, ?_⟩, fun h => absurd hk h⟩
  rw [← hv]
  exact if_pos rfl
theorem LwP.ex {a ou N : Nat} {K R j : Int32} {f : Nat → Int64} (hF : FS g w a S N) (hk : K = j) (hj : ¬ j = 0) (ho : w ou = some (eJ g 1 f, 3)) : LwP g w a ou S N K R S' (rI j) w :=
  ⟨by rw [hk], fun b y t hb _ => hb, fun h => absurd (hk.symm.trans h) hj, fun _ => ⟨hF.le (Nat.le_succ N), f, ho⟩⟩
theorem advS_StS {S : St} (k : Nat) : StS S (advS S k).1 := by
  obtain ⟨a1, a2, a3, a4, a5, a6, a7, a8, a9⟩ := advS_same (S := S) k
  exact ⟨a1, a4, a5, a6, a7, a8, a9⟩
theorem comeS_StS {S : St} (k : Nat) : StS S (comeS S k).1 := by
  obtain ⟨a1, a2, a3, a4, a5, a6, a7, a8, a9⟩ := comeS_same (S := S) k
  exact ⟨a1, a4, a5, a6, a7, a8, a9⟩
theorem lquestion_ct {a ou N : Nat} {f : Nat → Int64} (h : FS g w a S N) (hI : Inv S N) (ho : w ou = some (eJ g 1 f, 3)) : CtW g yX0_question cX0_question 3 (some .int) [(0, 8, 11, 13)] 12 (200*N+340) (2000*N+3900) [.ref a, .ref ou] w (LwP g w a ou S N (questK S) (S 2 0) (questS S)) noX := by
  refine CtW.of (hh := [(0, 8, 11, 13)]) RX0 "question" ⟨rfl, rfl⟩ (by decide +kernel) (by simp [Value.category] <;> exact cat_rf _) (Nat.le_of_ble_eq_true rfl) (fun x ok hQ => ?_)
  show Z g x 3 0 [some (.ref a), some (.ref ou), none] [] w (200*N+340) (2000*N+3900)
  obtain ⟨lq, d, mm, li, qs, LQ, P, LT, X, E, IX, hFS⟩ := id h
  obtain ⟨hB, hX, hR, hV, hE, hL⟩ := id hFS
  have hA := hB.ab
  have ha := hA.1
  obtain ⟨hX60, hq20⟩ := hFS.X60 hI.1
  have hx1 : ∀ q, questK S = 1 → ZX g x 3 3 [some (.ref a), some (.ref ou), none] w 0 0 cISE q := fun q hk => ZX.catch ok hQ [] [] rfl (fun z hz => by cases hz) (by decide) (by decide) q984 q994 (by
    refine Z.astore_n (i := 2) ok dX0_question_11 rfl (by decide) (by first | exact isRf.r _ | exact isRf.n | exact isRf.v _ | assumption) ?_
    refine Z.iconst_1 ok dX0_question_12 ?_
    refine Z.iretH ok hQ (by first | rfl | exact bI_nar _) dX0_question_13 ?_
    exact LwP.ex h hk (by decide) ho)
  refine Z.aload_n ok dX0_question_0 rfl (by first | exact isRf.r _ | exact isRf.n | exact isRf.v _ | assumption) ?_
  refine Z.iconst_0 ok dX0_question_1 ?_
  refine Z.aload_n ok dX0_question_2 rfl (by first | exact isRf.r _ | exact isRf.n | exact isRf.v _ | assumption) ?_
  refine Z.callV (kc' := 0) (ks' := 0) (ci := 0) (q := (RX1, TX1, 5)) (C := RX1) ok (question_ctA hA hI.1 (fun _ => hI.2.2.zq) (fun hm => by obtain ⟨j, hj⟩ := List.mem_iff_getElem?.mp hm; have z := hB.2.2.2.2.2.1 j lq hj; obtain ⟨fl, hlo⟩ := hA.2.2.1.obj; rw [hlo] at z; cases z)) ha rfl rfl q985 q986 (Or.inl q987) q16 q988 nk_X1_question rfl (by decide) (by first | exact Nat.le_of_ble_eq_true rfl | simp [Value.category, cat_rf]) (by omega) (by omega) dX0_question_3 rfl (fun E q w' h => by obtain ⟨rfl, rfl, hb⟩ := h; exact hx1 q (by have := of_decide_eq_false hb; unfold questK at this ⊢; split; rfl; rename_i c; rw [if_neg c] at this; exact absurd rfl this)) (fun v w1 hr => ?_)
  obtain ⟨hk, rfl, q, l, k1, k2, k3, k4, fs, k5⟩ := hr
  obtain ⟨hF1, hO⟩ := hFS.quest hI k3 k4 k1 k2 k5
  have ho1 := hO _ _ _ ho (Or.inl (by decide))
  refine Z.i2l ok dX0_question_6 rfl ?_
  refine Z.last ok ho1 (by decide) (vp_in_nI (N := 1) (show 0 < 1 by decide) (by decide)) dX0_question_7 ?_
  refine Z.goto (tgt := 14) ok dX0_question_8 (by decide) ?_
  refine Z.iconst_0 ok dX0_question_14 ?_
  refine Z.iretH ok hQ (by first | rfl | exact bI_nar _) dX0_question_15 ?_
  exact LwP.ok hk hF1 hO ho1 rfl
theorem lproduct_ct {a ou N : Nat} {f : Nat → Int64} (h : FS g w a S N) (hI : Inv S N) (ho : w ou = some (eJ g 1 f, 3)) (qv : Int32) : CtW g yX0_product cX0_product 4 (some .int) [(0, 9, 12, 19), (0, 9, 15, 13)] 12 (200*N+340) (2000*N+3900) [.ref a, .int qv, .ref ou] w (LwP g w a ou S N (prodK S qv) (S 5 (qN qv) + 1) (prodS S (qN qv))) noX := by
  refine CtW.of (hh := [(0, 9, 12, 19), (0, 9, 15, 13)]) RX0 "product" ⟨rfl, rfl⟩ (by decide +kernel) (by simp [Value.category] <;> exact cat_rf _) (Nat.le_of_ble_eq_true rfl) (fun x ok hQ => ?_)
  show Z g x 4 0 [some (.ref a), some (.int qv), some (.ref ou), none] [] w (200*N+340) (2000*N+3900)
  obtain ⟨lq, d, mm, li, qs, LQ, P, LT, X, E, IX, hFS⟩ := id h
  obtain ⟨hB, hX, hR, hV, hE, hL⟩ := id hFS
  have hA := hB.ab
  have ha := hA.1
  obtain ⟨hX60, hq20⟩ := hFS.X60 hI.1
  have hx1 : ∀ q, prodK S qv = 1 → ZX g x 4 4 [some (.ref a), some (.int qv), some (.ref ou), none] w 0 0 cIOB q := fun q hk => ZX.catch ok hQ [] [(0, 9, 15, 13)] rfl (fun z hz => by cases hz) (by decide) (by decide) q1081 q1113 (by
    refine Z.astore_n (i := 3) ok dX0_product_12 rfl (by decide) (by first | exact isRf.r _ | exact isRf.n | exact isRf.v _ | assumption) ?_
    refine Z.iconst_1 ok dX0_product_13 ?_
    refine Z.iretH ok hQ (by first | rfl | exact bI_nar _) dX0_product_14 ?_
    exact LwP.ex h hk (by decide) ho)
  have hx2 : ∀ q, prodK S qv = 2 → ZX g x 4 4 [some (.ref a), some (.int qv), some (.ref ou), none] w 0 0 cISE q := fun q hk => ZX.catch ok hQ [(0, 9, 12, 19)] [] rfl (fun z hz => by
    simp only [List.mem_cons, List.not_mem_nil, or_false] at hz
    rcases hz with rfl <;> refine ⟨by decide, ?_⟩
    · exact ⟨_, q1081, (by unfold ncL; decide)⟩) (by decide) (by decide) q984 q994 (by
    refine Z.astore_n (i := 3) ok dX0_product_15 rfl (by decide) (by first | exact isRf.r _ | exact isRf.n | exact isRf.v _ | assumption) ?_
    refine Z.iconst_2 ok dX0_product_16 ?_
    refine Z.iretH ok hQ (by first | rfl | exact bI_nar _) dX0_product_17 ?_
    exact LwP.ex h hk (by decide) ho)
  refine Z.aload_n ok dX0_product_0 rfl (by first | exact isRf.r _ | exact isRf.n | exact isRf.v _ | assumption) ?_
  refine Z.iconst_0 ok dX0_product_1 ?_
  refine Z.aload_n ok dX0_product_2 rfl (by first | exact isRf.r _ | exact isRf.n | exact isRf.v _ | assumption) ?_
  refine Z.iload_n ok dX0_product_3 rfl ?_
  refine Z.callV (kc' := 0) (ks' := 0) (ci := 0) (q := (RX1, TX1, 5)) (C := RX1) ok (product_ctA hB hX hI.1 (fun i hi => hI.2.2.nt0 i hi) hV (by omega) qv) ha rfl rfl q1100 q1101 (Or.inl q1102) q16 q1103 nk_X1_product rfl (by decide) (by first | exact Nat.le_of_ble_eq_true rfl | simp [Value.category, cat_rf]) (by omega) (by omega) dX0_product_4 rfl (fun E q w' h => by obtain ⟨rfl, ⟨rfl, hb⟩ | ⟨rfl, hb⟩⟩ := h; exact hx1 q hb; exact hx2 q hb) (fun v w1 hr => ?_)
  obtain ⟨hk, rfl, P', LT', X', r1, r2, hO⟩ := hr
  obtain ⟨hq, h5⟩ := prodK_0 hk
  obtain ⟨i, hi, hi20, rfl, e, -⟩ := isQ_le hI.1 hq
  rw [e] at r1
  obtain ⟨z5, z3⟩ := hI.1.2.1 i hi20
  have hF1 := hFS.prod r1 r2 hI.1 hi (by rw [e, z5] at h5; refine Nat.lt_of_le_of_ne z3 (fun c => h5 (by rw [c]; rfl)))
  rw [← e] at hF1
  have ho1 := hO _ _ _ ho (Or.inl (by decide))
  refine Z.i2l ok dX0_product_7 rfl ?_
  refine Z.last ok ho1 (by decide) (vp_in_nI (N := 1) (show 0 < 1 by decide) (by decide)) dX0_product_8 ?_
  refine Z.goto (tgt := 18) ok dX0_product_9 (by decide) ?_
  refine Z.iconst_0 ok dX0_product_18 ?_
  refine Z.iretH ok hQ (by first | rfl | exact bI_nar _) dX0_product_19 ?_
  exact LwP.ok hk hF1 hO ho1 rfl
theorem ltest_ct {a ou N : Nat} {f : Nat → Int64} (h : FS g w a S N) (hI : Inv S N) (ho : w ou = some (eJ g 1 f, 3)) (qv : Int32) (nm : Int32) (lo : Int32) (hi : Int32) (b : Int32) (hb01 : b = 0 ∨ b = 1) (hN : N < 1000) : CtW g yX0_test cX0_test 8 (some .int) [(0, 16, 19, 19), (0, 16, 23, 25), (0, 16, 27, 13)] 12 (200*N+340) (2000*N+3900) [.ref a, .int qv, .int nm, .int lo, .int hi, .int b, .ref ou] w (LwP g w a ou S N (testK S qv nm lo hi) (S 10 (lastN S (qN qv)) + 1) (testS S (qN qv) nm lo hi b)) noX := by
  refine CtW.of (hh := [(0, 16, 19, 19), (0, 16, 23, 25), (0, 16, 27, 13)]) RX0 "test" ⟨rfl, rfl⟩ (by decide +kernel) (by simp [Value.category] <;> exact cat_rf _) (Nat.le_of_ble_eq_true rfl) (fun x ok hQ => ?_)
  show Z g x 8 0 [some (.ref a), some (.int qv), some (.int nm), some (.int lo), some (.int hi), some (.int b), some (.ref ou), none] [] w (200*N+340) (2000*N+3900)
  obtain ⟨lq, d, mm, li, qs, LQ, P, LT, X, E, IX, hFS⟩ := id h
  obtain ⟨hB, hX, hR, hV, hE, hL⟩ := id hFS
  have hA := hB.ab
  have ha := hA.1
  obtain ⟨hX60, hq20⟩ := hFS.X60 hI.1
  have hx1 : ∀ q, testK S qv nm lo hi = 1 → ZX g x 8 11 [some (.ref a), some (.int qv), some (.int nm), some (.int lo), some (.int hi), some (.int b), some (.ref ou), none] w 0 0 cIOB q := fun q hk => ZX.catch ok hQ [] [(0, 16, 23, 25), (0, 16, 27, 13)] rfl (fun z hz => by cases hz) (by decide) (by decide) q1081 q1113 (by
    refine Z.astore ok dX0_test_19 (by decide) (by first | exact isRf.r _ | exact isRf.n | exact isRf.v _ | assumption) ?_
    refine Z.iconst_1 ok dX0_test_21 ?_
    refine Z.iretH ok hQ (by first | rfl | exact bI_nar _) dX0_test_22 ?_
    exact LwP.ex h hk (by decide) ho)
  have hx2 : ∀ q, testK S qv nm lo hi = 2 → ZX g x 8 11 [some (.ref a), some (.int qv), some (.int nm), some (.int lo), some (.int hi), some (.int b), some (.ref ou), none] w 0 0 cIAE q := fun q hk => ZX.catch ok hQ [(0, 16, 19, 19)] [(0, 16, 27, 13)] rfl (fun z hz => by
    simp only [List.mem_cons, List.not_mem_nil, or_false] at hz
    rcases hz with rfl <;> refine ⟨by decide, ?_⟩
    · exact ⟨_, q1081, (by unfold ncL; decide)⟩) (by decide) (by decide) q1148 q477 (by
    refine Z.astore ok dX0_test_23 (by decide) (by first | exact isRf.r _ | exact isRf.n | exact isRf.v _ | assumption) ?_
    refine Z.iconst_2 ok dX0_test_25 ?_
    refine Z.iretH ok hQ (by first | rfl | exact bI_nar _) dX0_test_26 ?_
    exact LwP.ex h hk (by decide) ho)
  have hx3 : ∀ q, testK S qv nm lo hi = 3 → ZX g x 8 11 [some (.ref a), some (.int qv), some (.int nm), some (.int lo), some (.int hi), some (.int b), some (.ref ou), none] w 0 0 cISE q := fun q hk => ZX.catch ok hQ [(0, 16, 19, 19), (0, 16, 23, 25)] [] rfl (fun z hz => by
    simp only [List.mem_cons, List.not_mem_nil, or_false] at hz
    rcases hz with rfl | rfl <;> refine ⟨by decide, ?_⟩
    · exact ⟨_, q1081, (by unfold ncL; decide)⟩
    · exact ⟨_, q1148, (by unfold ncL; decide)⟩) (by decide) (by decide) q984 q994 (by
    refine Z.astore ok dX0_test_27 (by decide) (by first | exact isRf.r _ | exact isRf.n | exact isRf.v _ | assumption) ?_
    refine Z.iconst_3 ok dX0_test_29 ?_
    refine Z.iretH ok hQ (by first | rfl | exact bI_nar _) dX0_test_30 ?_
    exact LwP.ex h hk (by decide) ho)
  refine Z.aload ok dX0_test_0 rfl (by first | exact isRf.r _ | exact isRf.n | exact isRf.v _ | assumption) ?_
  refine Z.iconst_0 ok dX0_test_2 ?_
  refine Z.aload_n ok dX0_test_3 rfl (by first | exact isRf.r _ | exact isRf.n | exact isRf.v _ | assumption) ?_
  refine Z.iload_n ok dX0_test_4 rfl ?_
  refine Z.iload_n ok dX0_test_5 rfl ?_
  refine Z.iload_n ok dX0_test_6 rfl ?_
  refine Z.iload ok dX0_test_7 rfl ?_
  refine Z.iload ok dX0_test_9 rfl ?_
  refine Z.callV (kc' := 0) (ks' := 0) (ci := 0) (q := (RX1, TX1, 5)) (C := RX1) ok (test_ctA (M := 10 * N + 10) hB hX hI.1 hV (by omega) (by omega) (fun n a b => by have := hL n a b; omega) qv nm lo hi b hb01) ha rfl rfl q1149 q1150 (Or.inl q1151) q16 q1152 nk_X1_test rfl (by decide) (by first | exact Nat.le_of_ble_eq_true rfl | simp [Value.category, cat_rf]) (by omega) (by omega) dX0_test_11 rfl (fun E q w' h => by obtain ⟨rfl, ⟨rfl, hb⟩ | ⟨rfl, hb⟩ | ⟨rfl, hb⟩⟩ := h; exact hx1 q hb; exact hx2 q hb; exact hx3 q hb) (fun v w1 hr => ?_)
  obtain ⟨hk, rfl, E', IX', r1, r2, r3, r4, hO⟩ := hr
  obtain ⟨hq, hn, hg, h0, h4⟩ := testK_0 hk
  obtain ⟨i, hi', hi20, rfl, e, -⟩ := isQ_le hI.1 hq
  obtain ⟨n, hn6, rfl, en⟩ := inB_nI (n := 5) (by decide) hn
  obtain ⟨c, d', g1, g2, rfl, rfl, g3, g4⟩ := rngB_nI hg
  rw [e] at r1 r4 h0 h4
  rw [g3, g4, en] at r4
  subst r4
  have hF1 := (hFS.test hI hi' h0 h4 (by omega) g1 g2 hb01 r1 r2 r3).1
  rw [← e] at hF1
  have ho1 := hO _ _ _ ho (Or.inl (by decide))
  refine Z.i2l ok dX0_test_14 rfl ?_
  refine Z.last ok ho1 (by decide) (vp_in_nI (N := 1) (show 0 < 1 by decide) (by decide)) dX0_test_15 ?_
  refine Z.goto (tgt := 31) ok dX0_test_16 (by decide) ?_
  refine Z.iconst_0 ok dX0_test_31 ?_
  refine Z.iretH ok hQ (by first | rfl | exact bI_nar _) dX0_test_32 ?_
  exact LwP.ok hk hF1 hO ho1 rfl
theorem ldrop_ct {a ou N : Nat} {f : Nat → Int64} (h : FS g w a S N) (hI : Inv S N) (ho : w ou = some (eJ g 1 f, 3)) (qv : Int32) : CtW g yX0_drop cX0_drop 4 (some .int) [(0, 9, 12, 19)] 12 (200*N+340) (2000*N+3900) [.ref a, .int qv, .ref ou] w (LwP g w a ou S N (qK S qv) (S 9 (qN qv)) (up2 S 4 (qN qv) 1)) noX := by
  refine CtW.of (hh := [(0, 9, 12, 19)]) RX0 "drop" ⟨rfl, rfl⟩ (by decide +kernel) (by simp [Value.category] <;> exact cat_rf _) (Nat.le_of_ble_eq_true rfl) (fun x ok hQ => ?_)
  show Z g x 4 0 [some (.ref a), some (.int qv), some (.ref ou), none] [] w (200*N+340) (2000*N+3900)
  obtain ⟨lq, d, mm, li, qs, LQ, P, LT, X, E, IX, hFS⟩ := id h
  obtain ⟨hB, hX, hR, hV, hE, hL⟩ := id hFS
  have hA := hB.ab
  have ha := hA.1
  obtain ⟨hX60, hq20⟩ := hFS.X60 hI.1
  have hx1 : ∀ q, qK S qv = 1 → ZX g x 4 4 [some (.ref a), some (.int qv), some (.ref ou), none] w 0 0 cIOB q := fun q hk => ZX.catch ok hQ [] [] rfl (fun z hz => by cases hz) (by decide) (by decide) q1081 q1113 (by
    refine Z.astore_n (i := 3) ok dX0_drop_12 rfl (by decide) (by first | exact isRf.r _ | exact isRf.n | exact isRf.v _ | assumption) ?_
    refine Z.iconst_1 ok dX0_drop_13 ?_
    refine Z.iretH ok hQ (by first | rfl | exact bI_nar _) dX0_drop_14 ?_
    exact LwP.ex h hk (by decide) ho)
  refine Z.aload_n ok dX0_drop_0 rfl (by first | exact isRf.r _ | exact isRf.n | exact isRf.v _ | assumption) ?_
  refine Z.iconst_0 ok dX0_drop_1 ?_
  refine Z.aload_n ok dX0_drop_2 rfl (by first | exact isRf.r _ | exact isRf.n | exact isRf.v _ | assumption) ?_
  refine Z.iload_n ok dX0_drop_3 rfl ?_
  refine Z.callV (kc' := 0) (ks' := 0) (ci := 0) (q := (RX1, TX1, 5)) (C := RX1) ok (drop_ctA hA hB.2.2.2.2.1 hI.1 qv) ha rfl rfl q1372 q1373 (Or.inl q1374) q16 q1375 nk_X1_drop rfl (by decide) (by first | exact Nat.le_of_ble_eq_true rfl | simp [Value.category, cat_rf]) (by omega) (by omega) dX0_drop_4 rfl (fun E q w' h => by obtain ⟨rfl, rfl, hb⟩ := h; exact hx1 q (by unfold qK; rw [hb]; rfl)) (fun v w1 hr => ?_)
  obtain ⟨hq, rfl, r1, r2⟩ := hr
  have hk : qK S qv = 0 := by unfold qK; rw [hq]; rfl
  have hF1 := hFS.dyn r1 r2 (StS.up (by decide))
  have hO := r2.O
  have ho1 := hO _ _ _ ho (Or.inl (by decide))
  refine Z.i2l ok dX0_drop_7 rfl ?_
  refine Z.last ok ho1 (by decide) (vp_in_nI (N := 1) (show 0 < 1 by decide) (by decide)) dX0_drop_8 ?_
  refine Z.goto (tgt := 15) ok dX0_drop_9 (by decide) ?_
  refine Z.iconst_0 ok dX0_drop_15 ?_
  refine Z.iretH ok hQ (by first | rfl | exact bI_nar _) dX0_drop_16 ?_
  exact LwP.ok hk hF1 hO ho1 rfl
theorem lsetQuiet_ct {a ou N : Nat} {f : Nat → Int64} (h : FS g w a S N) (hI : Inv S N) (ho : w ou = some (eJ g 1 f, 3)) (qv : Int32) (mi : Int32) : CtW g yX0_setQuiet cX0_setQuiet 5 (some .int) [(0, 10, 13, 19), (0, 10, 17, 25)] 12 (200*N+340) (2000*N+3900) [.ref a, .int qv, .int mi, .ref ou] w (LwP g w a ou S N (quietK S qv mi) (S 6 (qN qv)) (up2 S 6 (qN qv) mi)) noX := by
  refine CtW.of (hh := [(0, 10, 13, 19), (0, 10, 17, 25)]) RX0 "setQuiet" ⟨rfl, rfl⟩ (by decide +kernel) (by simp [Value.category] <;> exact cat_rf _) (Nat.le_of_ble_eq_true rfl) (fun x ok hQ => ?_)
  show Z g x 5 0 [some (.ref a), some (.int qv), some (.int mi), some (.ref ou), none] [] w (200*N+340) (2000*N+3900)
  obtain ⟨lq, d, mm, li, qs, LQ, P, LT, X, E, IX, hFS⟩ := id h
  obtain ⟨hB, hX, hR, hV, hE, hL⟩ := id hFS
  have hA := hB.ab
  have ha := hA.1
  obtain ⟨hX60, hq20⟩ := hFS.X60 hI.1
  have hx1 : ∀ q, quietK S qv mi = 1 → ZX g x 5 5 [some (.ref a), some (.int qv), some (.int mi), some (.ref ou), none] w 0 0 cIOB q := fun q hk => ZX.catch ok hQ [] [(0, 10, 17, 25)] rfl (fun z hz => by cases hz) (by decide) (by decide) q1081 q1113 (by
    refine Z.astore ok dX0_setQuiet_13 (by decide) (by first | exact isRf.r _ | exact isRf.n | exact isRf.v _ | assumption) ?_
    refine Z.iconst_1 ok dX0_setQuiet_15 ?_
    refine Z.iretH ok hQ (by first | rfl | exact bI_nar _) dX0_setQuiet_16 ?_
    exact LwP.ex h hk (by decide) ho)
  have hx2 : ∀ q, quietK S qv mi = 2 → ZX g x 5 5 [some (.ref a), some (.int qv), some (.int mi), some (.ref ou), none] w 0 0 cIAE q := fun q hk => ZX.catch ok hQ [(0, 10, 13, 19)] [] rfl (fun z hz => by
    simp only [List.mem_cons, List.not_mem_nil, or_false] at hz
    rcases hz with rfl <;> refine ⟨by decide, ?_⟩
    · exact ⟨_, q1081, (by unfold ncL; decide)⟩) (by decide) (by decide) q1148 q477 (by
    refine Z.astore ok dX0_setQuiet_17 (by decide) (by first | exact isRf.r _ | exact isRf.n | exact isRf.v _ | assumption) ?_
    refine Z.iconst_2 ok dX0_setQuiet_19 ?_
    refine Z.iretH ok hQ (by first | rfl | exact bI_nar _) dX0_setQuiet_20 ?_
    exact LwP.ex h hk (by decide) ho)
  refine Z.aload_n ok dX0_setQuiet_0 rfl (by first | exact isRf.r _ | exact isRf.n | exact isRf.v _ | assumption) ?_
  refine Z.iconst_0 ok dX0_setQuiet_1 ?_
  refine Z.aload_n ok dX0_setQuiet_2 rfl (by first | exact isRf.r _ | exact isRf.n | exact isRf.v _ | assumption) ?_
  refine Z.iload_n ok dX0_setQuiet_3 rfl ?_
  refine Z.iload_n ok dX0_setQuiet_4 rfl ?_
  refine Z.callV (kc' := 0) (ks' := 0) (ci := 0) (q := (RX1, TX1, 5)) (C := RX1) ok (setQuiet_ctA hA hB.2.2.2.2.1 hI.1 qv mi) ha rfl rfl q1379 q1380 (Or.inl q1381) q16 q1382 nk_X1_setQuiet rfl (by decide) (by first | exact Nat.le_of_ble_eq_true rfl | simp [Value.category, cat_rf]) (by omega) (by omega) dX0_setQuiet_5 rfl (fun E q w' h => by obtain ⟨rfl, ⟨rfl, hb⟩ | ⟨rfl, hb⟩⟩ := h; exact hx1 q hb; exact hx2 q hb) (fun v w1 hr => ?_)
  obtain ⟨hk, rfl, r1, r2⟩ := hr
  have hF1 := hFS.dyn r1 r2 (StS.up (by decide))
  have hO := r2.O
  have ho1 := hO _ _ _ ho (Or.inl (by decide))
  refine Z.i2l ok dX0_setQuiet_8 rfl ?_
  refine Z.last ok ho1 (by decide) (vp_in_nI (N := 1) (show 0 < 1 by decide) (by decide)) dX0_setQuiet_9 ?_
  refine Z.goto (tgt := 21) ok dX0_setQuiet_10 (by decide) ?_
  refine Z.iconst_0 ok dX0_setQuiet_21 ?_
  refine Z.iretH ok hQ (by first | rfl | exact bI_nar _) dX0_setQuiet_22 ?_
  exact LwP.ok hk hF1 hO ho1 rfl
theorem lset_ct {a ou N : Nat} {f : Nat → Int64} (h : FS g w a S N) (hI : Inv S N) (ho : w ou = some (eJ g 1 f, 3)) (nm : Int32) (v : Int32) : CtW g yX0_set cX0_set 5 (some .int) [(0, 10, 13, 19), (0, 10, 17, 25)] 12 (200*N+340) (2000*N+3900) [.ref a, .int nm, .int v, .ref ou] w (LwP g w a ou S N (setK nm v) (S 3 (qN nm)) (up2 S 3 (qN nm) v)) noX := by
  refine CtW.of (hh := [(0, 10, 13, 19), (0, 10, 17, 25)]) RX0 "set" ⟨rfl, rfl⟩ (by decide +kernel) (by simp [Value.category] <;> exact cat_rf _) (Nat.le_of_ble_eq_true rfl) (fun x ok hQ => ?_)
  show Z g x 5 0 [some (.ref a), some (.int nm), some (.int v), some (.ref ou), none] [] w (200*N+340) (2000*N+3900)
  obtain ⟨lq, d, mm, li, qs, LQ, P, LT, X, E, IX, hFS⟩ := id h
  obtain ⟨hB, hX, hR, hV, hE, hL⟩ := id hFS
  have hA := hB.ab
  have ha := hA.1
  obtain ⟨hX60, hq20⟩ := hFS.X60 hI.1
  have hx1 : ∀ q, setK nm v = 1 → ZX g x 5 5 [some (.ref a), some (.int nm), some (.int v), some (.ref ou), none] w 0 0 cIOB q := fun q hk => ZX.catch ok hQ [] [(0, 10, 17, 25)] rfl (fun z hz => by cases hz) (by decide) (by decide) q1081 q1113 (by
    refine Z.astore ok dX0_set_13 (by decide) (by first | exact isRf.r _ | exact isRf.n | exact isRf.v _ | assumption) ?_
    refine Z.iconst_1 ok dX0_set_15 ?_
    refine Z.iretH ok hQ (by first | rfl | exact bI_nar _) dX0_set_16 ?_
    exact LwP.ex h hk (by decide) ho)
  have hx2 : ∀ q, setK nm v = 2 → ZX g x 5 5 [some (.ref a), some (.int nm), some (.int v), some (.ref ou), none] w 0 0 cIAE q := fun q hk => ZX.catch ok hQ [(0, 10, 13, 19)] [] rfl (fun z hz => by
    simp only [List.mem_cons, List.not_mem_nil, or_false] at hz
    rcases hz with rfl <;> refine ⟨by decide, ?_⟩
    · exact ⟨_, q1081, (by unfold ncL; decide)⟩) (by decide) (by decide) q1148 q477 (by
    refine Z.astore ok dX0_set_17 (by decide) (by first | exact isRf.r _ | exact isRf.n | exact isRf.v _ | assumption) ?_
    refine Z.iconst_2 ok dX0_set_19 ?_
    refine Z.iretH ok hQ (by first | rfl | exact bI_nar _) dX0_set_20 ?_
    exact LwP.ex h hk (by decide) ho)
  refine Z.aload_n ok dX0_set_0 rfl (by first | exact isRf.r _ | exact isRf.n | exact isRf.v _ | assumption) ?_
  refine Z.iconst_0 ok dX0_set_1 ?_
  refine Z.aload_n ok dX0_set_2 rfl (by first | exact isRf.r _ | exact isRf.n | exact isRf.v _ | assumption) ?_
  refine Z.iload_n ok dX0_set_3 rfl ?_
  refine Z.iload_n ok dX0_set_4 rfl ?_
  refine Z.callV (kc' := 0) (ks' := 0) (ci := 0) (q := (RX1, TX1, 5)) (C := RX1) ok (set_ctA hA nm v) ha rfl rfl q1386 q1387 (Or.inl q1388) q16 q1389 nk_X1_set rfl (by decide) (by first | exact Nat.le_of_ble_eq_true rfl | simp [Value.category, cat_rf]) (by omega) (by omega) dX0_set_5 rfl (fun E q w' h => by obtain ⟨rfl, ⟨rfl, hb⟩ | ⟨rfl, hb⟩⟩ := h; exact hx1 q hb; exact hx2 q hb) (fun v w1 hr => ?_)
  obtain ⟨hk, rfl, r1, r2⟩ := hr
  have hF1 := hFS.dyn r1 r2 (StS.up (by decide))
  have hO := r2.O
  have ho1 := hO _ _ _ ho (Or.inl (by decide))
  refine Z.i2l ok dX0_set_8 rfl ?_
  refine Z.last ok ho1 (by decide) (vp_in_nI (N := 1) (show 0 < 1 by decide) (by decide)) dX0_set_9 ?_
  refine Z.goto (tgt := 21) ok dX0_set_10 (by decide) ?_
  refine Z.iconst_0 ok dX0_set_21 ?_
  refine Z.iretH ok hQ (by first | rfl | exact bI_nar _) dX0_set_22 ?_
  exact LwP.ok hk hF1 hO ho1 rfl
theorem ladvance_ct {a ou N : Nat} {f : Nat → Int64} (h : FS g w a S N) (hI : Inv S N) (ho : w ou = some (eJ g 1 f, 3)) (mi : Int32) : CtW g yX0_advance cX0_advance 4 (some .int) [(0, 9, 12, 25), (0, 9, 15, 13)] 12 (200*N+340) (2000*N+3900) [.ref a, .int mi, .ref ou] w (LwP g w a ou S N (advK S mi) ((advS S mi.toNatClampNeg).2) ((advS S mi.toNatClampNeg).1)) noX := by
  refine CtW.of (hh := [(0, 9, 12, 25), (0, 9, 15, 13)]) RX0 "advance" ⟨rfl, rfl⟩ (by decide +kernel) (by simp [Value.category] <;> exact cat_rf _) (Nat.le_of_ble_eq_true rfl) (fun x ok hQ => ?_)
  show Z g x 4 0 [some (.ref a), some (.int mi), some (.ref ou), none] [] w (200*N+340) (2000*N+3900)
  obtain ⟨lq, d, mm, li, qs, LQ, P, LT, X, E, IX, hFS⟩ := id h
  obtain ⟨hB, hX, hR, hV, hE, hL⟩ := id hFS
  have hA := hB.ab
  have ha := hA.1
  obtain ⟨hX60, hq20⟩ := hFS.X60 hI.1
  have hx1 : ∀ q, advK S mi = 1 → ZX g x 4 4 [some (.ref a), some (.int mi), some (.ref ou), none] w 0 0 cIAE q := fun q hk => ZX.catch ok hQ [] [(0, 9, 15, 13)] rfl (fun z hz => by cases hz) (by decide) (by decide) q1148 q477 (by
    refine Z.astore_n (i := 3) ok dX0_advance_12 rfl (by decide) (by first | exact isRf.r _ | exact isRf.n | exact isRf.v _ | assumption) ?_
    refine Z.iconst_1 ok dX0_advance_13 ?_
    refine Z.iretH ok hQ (by first | rfl | exact bI_nar _) dX0_advance_14 ?_
    exact LwP.ex h hk (by decide) ho)
  have hx2 : ∀ q, advK S mi = 2 → ZX g x 4 4 [some (.ref a), some (.int mi), some (.ref ou), none] w 0 0 cISE q := fun q hk => ZX.catch ok hQ [(0, 9, 12, 25)] [] rfl (fun z hz => by
    simp only [List.mem_cons, List.not_mem_nil, or_false] at hz
    rcases hz with rfl <;> refine ⟨by decide, ?_⟩
    · exact ⟨_, q1148, (by unfold ncL; decide)⟩) (by decide) (by decide) q984 q994 (by
    refine Z.astore_n (i := 3) ok dX0_advance_15 rfl (by decide) (by first | exact isRf.r _ | exact isRf.n | exact isRf.v _ | assumption) ?_
    refine Z.iconst_2 ok dX0_advance_16 ?_
    refine Z.iretH ok hQ (by first | rfl | exact bI_nar _) dX0_advance_17 ?_
    exact LwP.ex h hk (by decide) ho)
  refine Z.aload_n ok dX0_advance_0 rfl (by first | exact isRf.r _ | exact isRf.n | exact isRf.v _ | assumption) ?_
  refine Z.iconst_0 ok dX0_advance_1 ?_
  refine Z.aload_n ok dX0_advance_2 rfl (by first | exact isRf.r _ | exact isRf.n | exact isRf.v _ | assumption) ?_
  refine Z.iload_n ok dX0_advance_3 rfl ?_
  refine Z.callV (kc' := 0) (ks' := 0) (ci := 0) (q := (RX1, TX1, 5)) (C := RX1) ok (advance_ctA hA hB.2.2.2.2.1 hI.1 mi) ha rfl rfl q1393 q1394 (Or.inl q1395) q16 q1396 nk_X1_advance rfl (by decide) (by first | exact Nat.le_of_ble_eq_true rfl | simp [Value.category, cat_rf]) (by omega) (by omega) dX0_advance_4 rfl (fun E q w' h => by obtain ⟨rfl, ⟨rfl, hb⟩ | ⟨rfl, hb⟩⟩ := h; exact hx1 q hb; exact hx2 q hb) (fun v w1 hr => ?_)
  obtain ⟨hk, rfl, r1, r2⟩ := hr
  have hF1 := hFS.dyn r1 r2 (advS_StS _)
  have hO := r2.O
  have ho1 := hO _ _ _ ho (Or.inl (by decide))
  refine Z.i2l ok dX0_advance_7 rfl ?_
  refine Z.last ok ho1 (by decide) (vp_in_nI (N := 1) (show 0 < 1 by decide) (by decide)) dX0_advance_8 ?_
  refine Z.goto (tgt := 18) ok dX0_advance_9 (by decide) ?_
  refine Z.iconst_0 ok dX0_advance_18 ?_
  refine Z.iretH ok hQ (by first | rfl | exact bI_nar _) dX0_advance_19 ?_
  exact LwP.ok hk hF1 hO ho1 rfl
theorem lsatisfies_ct {a ou N : Nat} {f : Nat → Int64} (h : FS g w a S N) (hI : Inv S N) (ho : w ou = some (eJ g 1 f, 3)) (qv : Int32) : CtW g yX0_satisfies cX0_satisfies 4 (some .int) [(0, 16, 19, 19)] 12 (200*N+340) (2000*N+3900) [.ref a, .int qv, .ref ou] w (LwP g w a ou S N (qK S qv) (bI (doesB S (qN qv))) (S)) noX := by
  refine CtW.of (hh := [(0, 16, 19, 19)]) RX0 "satisfies" ⟨rfl, rfl⟩ (by decide +kernel) (by simp [Value.category] <;> exact cat_rf _) (Nat.le_of_ble_eq_true rfl) (fun x ok hQ => ?_)
  show Z g x 4 0 [some (.ref a), some (.int qv), some (.ref ou), none] [] w (200*N+340) (2000*N+3900)
  obtain ⟨lq, d, mm, li, qs, LQ, P, LT, X, E, IX, hFS⟩ := id h
  obtain ⟨hB, hX, hR, hV, hE, hL⟩ := id hFS
  have hA := hB.ab
  have ha := hA.1
  obtain ⟨hX60, hq20⟩ := hFS.X60 hI.1
  have hx1 : ∀ q, qK S qv = 1 → ZX g x 4 4 [some (.ref a), some (.int qv), some (.ref ou), none] w 0 0 cIOB q := fun q hk => ZX.catch ok hQ [] [] rfl (fun z hz => by cases hz) (by decide) (by decide) q1081 q1113 (by
    refine Z.astore_n (i := 3) ok dX0_satisfies_19 rfl (by decide) (by first | exact isRf.r _ | exact isRf.n | exact isRf.v _ | assumption) ?_
    refine Z.iconst_1 ok dX0_satisfies_20 ?_
    refine Z.iretH ok hQ (by first | rfl | exact bI_nar _) dX0_satisfies_21 ?_
    exact LwP.ex h hk (by decide) ho)
  refine Z.aload_n ok dX0_satisfies_0 rfl (by first | exact isRf.r _ | exact isRf.n | exact isRf.v _ | assumption) ?_
  refine Z.iconst_0 ok dX0_satisfies_1 ?_
  refine Z.aload_n ok dX0_satisfies_2 rfl (by first | exact isRf.r _ | exact isRf.n | exact isRf.v _ | assumption) ?_
  refine Z.iload_n ok dX0_satisfies_3 rfl ?_
  refine Z.callV (kc' := 0) (ks' := 0) (ci := 0) (q := (RX1, TX1, 5)) (C := RX1) ok (satisfies_ctA hA hI.1 qv) ha rfl rfl q1401 q1402 (Or.inl q1403) q16 q1404 nk_X1_satisfies rfl (by decide) (by first | exact Nat.le_of_ble_eq_true rfl | simp [Value.category, cat_rf]) (by omega) (by omega) dX0_satisfies_4 rfl (fun E q w' h => by obtain ⟨rfl, rfl, hb⟩ := h; exact hx1 q (by unfold qK; rw [hb]; rfl)) (fun v w1 hr => ?_)
  obtain ⟨rfl, hq, rfl⟩ := hr
  have hk : qK S qv = 0 := by unfold qK; rw [hq]; rfl
  have hF1 := h.le (Nat.le_succ N)
  have hO : FrO w w := FrO.rf
  have ho1 := hO _ _ _ ho (Or.inl (by decide))
  cases hbb : doesB S (qN qv) with
  | true =>
    refine Z.if_eq (tgt := 14) ok dX0_satisfies_7 (by decide) (fun hc => absurd hc (by decide)) (fun _ => ?_)
    refine Z.lconst (v := 1) ok dX0_satisfies_10 (by decide) ?_
    refine Z.goto (tgt := 15) ok dX0_satisfies_11 (by decide) ?_
    refine Z.last ok ho1 (by decide) (vp_in_nI (N := 1) (show 0 < 1 by decide) (by decide)) dX0_satisfies_15 ?_
    refine Z.goto (tgt := 22) ok dX0_satisfies_16 (by decide) ?_
    refine Z.iconst_0 ok dX0_satisfies_22 ?_
    refine Z.iretH ok hQ (by first | rfl | exact bI_nar _) dX0_satisfies_23 ?_
    exact LwP.ok hk hF1 hO ho1 (by rw [hbb]; decide)
  | false =>
    refine Z.if_eq (tgt := 14) ok dX0_satisfies_7 (by decide) (fun _ => ?_) (fun hc => absurd (by decide) hc)
    refine Z.lconst (v := 0) ok dX0_satisfies_14 (by decide) ?_
    refine Z.last ok ho1 (by decide) (vp_in_nI (N := 1) (show 0 < 1 by decide) (by decide)) dX0_satisfies_15 ?_
    refine Z.goto (tgt := 22) ok dX0_satisfies_16 (by decide) ?_
    refine Z.iconst_0 ok dX0_satisfies_22 ?_
    refine Z.iretH ok hQ (by first | rfl | exact bI_nar _) dX0_satisfies_23 ?_
    exact LwP.ok hk hF1 hO ho1 (by rw [hbb]; decide)
theorem lsizeOf_ct {a ou N : Nat} {f : Nat → Int64} (h : FS g w a S N) (hI : Inv S N) (ho : w ou = some (eJ g 1 f, 3)) (qv : Int32) : CtW g yX0_sizeOf cX0_sizeOf 4 (some .int) [(0, 9, 12, 19)] 12 (200*N+340) (2000*N+3900) [.ref a, .int qv, .ref ou] w (LwP g w a ou S N (qK S qv) (nI (sizeN S (qN qv))) (S)) noX := by
  refine CtW.of (hh := [(0, 9, 12, 19)]) RX0 "sizeOf" ⟨rfl, rfl⟩ (by decide +kernel) (by simp [Value.category] <;> exact cat_rf _) (Nat.le_of_ble_eq_true rfl) (fun x ok hQ => ?_)
  show Z g x 4 0 [some (.ref a), some (.int qv), some (.ref ou), none] [] w (200*N+340) (2000*N+3900)
  obtain ⟨lq, d, mm, li, qs, LQ, P, LT, X, E, IX, hFS⟩ := id h
  obtain ⟨hB, hX, hR, hV, hE, hL⟩ := id hFS
  have hA := hB.ab
  have ha := hA.1
  obtain ⟨hX60, hq20⟩ := hFS.X60 hI.1
  have hx1 : ∀ q, qK S qv = 1 → ZX g x 4 4 [some (.ref a), some (.int qv), some (.ref ou), none] w 0 0 cIOB q := fun q hk => ZX.catch ok hQ [] [] rfl (fun z hz => by cases hz) (by decide) (by decide) q1081 q1113 (by
    refine Z.astore_n (i := 3) ok dX0_sizeOf_12 rfl (by decide) (by first | exact isRf.r _ | exact isRf.n | exact isRf.v _ | assumption) ?_
    refine Z.iconst_1 ok dX0_sizeOf_13 ?_
    refine Z.iretH ok hQ (by first | rfl | exact bI_nar _) dX0_sizeOf_14 ?_
    exact LwP.ex h hk (by decide) ho)
  refine Z.aload_n ok dX0_sizeOf_0 rfl (by first | exact isRf.r _ | exact isRf.n | exact isRf.v _ | assumption) ?_
  refine Z.iconst_0 ok dX0_sizeOf_1 ?_
  refine Z.aload_n ok dX0_sizeOf_2 rfl (by first | exact isRf.r _ | exact isRf.n | exact isRf.v _ | assumption) ?_
  refine Z.iload_n ok dX0_sizeOf_3 rfl ?_
  refine Z.callV (kc' := 0) (ks' := 0) (ci := 0) (q := (RX1, TX1, 5)) (C := RX1) ok (sizeOf_ctA hA hI.1 qv) ha rfl rfl q1408 q1409 (Or.inl q1410) q16 q1411 nk_X1_sizeOf rfl (by decide) (by first | exact Nat.le_of_ble_eq_true rfl | simp [Value.category, cat_rf]) (by omega) (by omega) dX0_sizeOf_4 rfl (fun E q w' h => by obtain ⟨rfl, rfl, hb⟩ := h; exact hx1 q (by unfold qK; rw [hb]; rfl)) (fun v w1 hr => ?_)
  obtain ⟨rfl, hq, rfl⟩ := hr
  have hk : qK S qv = 0 := by unfold qK; rw [hq]; rfl
  have hF1 := h.le (Nat.le_succ N)
  have hO : FrO w w := FrO.rf
  have ho1 := hO _ _ _ ho (Or.inl (by decide))
  refine Z.i2l ok dX0_sizeOf_7 rfl ?_
  refine Z.last ok ho1 (by decide) (vp_in_nI (N := 1) (show 0 < 1 by decide) (by decide)) dX0_sizeOf_8 ?_
  refine Z.goto (tgt := 15) ok dX0_sizeOf_9 (by decide) ?_
  refine Z.iconst_0 ok dX0_sizeOf_15 ?_
  refine Z.iretH ok hQ (by first | rfl | exact bI_nar _) dX0_sizeOf_16 ?_
  exact LwP.ok hk hF1 hO ho1 rfl
theorem lpieces_ct {a ou N : Nat} {f : Nat → Int64} (h : FS g w a S N) (hI : Inv S N) (ho : w ou = some (eJ g 1 f, 3)) (lo : Int32) (hi : Int32) : CtW g yX0_pieces cX0_pieces 5 (some .int) [(0, 10, 13, 25)] 12 (200*N+340) (2000*N+3900) [.ref a, .int lo, .int hi, .ref ou] w (LwP g w a ou S N (rngK lo hi) (nI (piecesN (qN hi) 64 (qN lo))) (S)) noX := by
  refine CtW.of (hh := [(0, 10, 13, 25)]) RX0 "pieces" ⟨rfl, rfl⟩ (by decide +kernel) (by simp [Value.category] <;> exact cat_rf _) (Nat.le_of_ble_eq_true rfl) (fun x ok hQ => ?_)
  show Z g x 5 0 [some (.ref a), some (.int lo), some (.int hi), some (.ref ou), none] [] w (200*N+340) (2000*N+3900)
  obtain ⟨lq, d, mm, li, qs, LQ, P, LT, X, E, IX, hFS⟩ := id h
  obtain ⟨hB, hX, hR, hV, hE, hL⟩ := id hFS
  have hA := hB.ab
  have ha := hA.1
  obtain ⟨hX60, hq20⟩ := hFS.X60 hI.1
  have hx1 : ∀ q, rngK lo hi = 1 → ZX g x 5 5 [some (.ref a), some (.int lo), some (.int hi), some (.ref ou), none] w 0 0 cIAE q := fun q hk => ZX.catch ok hQ [] [] rfl (fun z hz => by cases hz) (by decide) (by decide) q1148 q477 (by
    refine Z.astore ok dX0_pieces_13 (by decide) (by first | exact isRf.r _ | exact isRf.n | exact isRf.v _ | assumption) ?_
    refine Z.iconst_1 ok dX0_pieces_15 ?_
    refine Z.iretH ok hQ (by first | rfl | exact bI_nar _) dX0_pieces_16 ?_
    exact LwP.ex h hk (by decide) ho)
  refine Z.aload_n ok dX0_pieces_0 rfl (by first | exact isRf.r _ | exact isRf.n | exact isRf.v _ | assumption) ?_
  refine Z.iconst_0 ok dX0_pieces_1 ?_
  refine Z.aload_n ok dX0_pieces_2 rfl (by first | exact isRf.r _ | exact isRf.n | exact isRf.v _ | assumption) ?_
  refine Z.iload_n ok dX0_pieces_3 rfl ?_
  refine Z.iload_n ok dX0_pieces_4 rfl ?_
  refine Z.callV (kc' := 0) (ks' := 0) (ci := 0) (q := (RX1, TX1, 5)) (C := RX1) ok (pieces_ctA lo hi) ha rfl rfl q1415 q1416 (Or.inl q1417) q16 q1418 nk_X1_pieces rfl (by decide) (by first | exact Nat.le_of_ble_eq_true rfl | simp [Value.category, cat_rf]) (by omega) (by omega) dX0_pieces_5 rfl (fun E q w' h => by obtain ⟨rfl, rfl, hb⟩ := h; exact hx1 q (by unfold rngK; rw [hb]; rfl)) (fun v w1 hr => ?_)
  obtain ⟨rfl, hq, rfl⟩ := hr
  have hk : rngK lo hi = 0 := by unfold rngK; rw [hq]; rfl
  have hF1 := h.le (Nat.le_succ N)
  have hO : FrO w w := FrO.rf
  have ho1 := hO _ _ _ ho (Or.inl (by decide))
  refine Z.i2l ok dX0_pieces_8 rfl ?_
  refine Z.last ok ho1 (by decide) (vp_in_nI (N := 1) (show 0 < 1 by decide) (by decide)) dX0_pieces_9 ?_
  refine Z.goto (tgt := 17) ok dX0_pieces_10 (by decide) ?_
  refine Z.iconst_0 ok dX0_pieces_17 ?_
  refine Z.iretH ok hQ (by first | rfl | exact bI_nar _) dX0_pieces_18 ?_
  exact LwP.ok hk hF1 hO ho1 rfl
theorem lpieceAt_ct {a ou N : Nat} {f : Nat → Int64} (h : FS g w a S N) (hI : Inv S N) (ho : w ou = some (eJ g 1 f, 3)) (lo : Int32) (hi : Int32) (k : Int32) : CtW g yX0_pieceAt cX0_pieceAt 6 (some .int) [(0, 12, 15, 19), (0, 12, 19, 25)] 12 (200*N+340) (2000*N+3900) [.ref a, .int lo, .int hi, .int k, .ref ou] w (LwP g w a ou S N (patK lo hi k) (pieceAtN (qN hi) (qN k) 64 (qN lo) 0) (S)) noX := by
  refine CtW.of (hh := [(0, 12, 15, 19), (0, 12, 19, 25)]) RX0 "pieceAt" ⟨rfl, rfl⟩ (by decide +kernel) (by simp [Value.category] <;> exact cat_rf _) (Nat.le_of_ble_eq_true rfl) (fun x ok hQ => ?_)
  show Z g x 6 0 [some (.ref a), some (.int lo), some (.int hi), some (.int k), some (.ref ou), none] [] w (200*N+340) (2000*N+3900)
  obtain ⟨lq, d, mm, li, qs, LQ, P, LT, X, E, IX, hFS⟩ := id h
  obtain ⟨hB, hX, hR, hV, hE, hL⟩ := id hFS
  have hA := hB.ab
  have ha := hA.1
  obtain ⟨hX60, hq20⟩ := hFS.X60 hI.1
  have hx1 : ∀ q, patK lo hi k = 1 → ZX g x 6 7 [some (.ref a), some (.int lo), some (.int hi), some (.int k), some (.ref ou), none] w 0 0 cIOB q := fun q hk => ZX.catch ok hQ [] [(0, 12, 19, 25)] rfl (fun z hz => by cases hz) (by decide) (by decide) q1081 q1113 (by
    refine Z.astore ok dX0_pieceAt_15 (by decide) (by first | exact isRf.r _ | exact isRf.n | exact isRf.v _ | assumption) ?_
    refine Z.iconst_1 ok dX0_pieceAt_17 ?_
    refine Z.iretH ok hQ (by first | rfl | exact bI_nar _) dX0_pieceAt_18 ?_
    exact LwP.ex h hk (by decide) ho)
  have hx2 : ∀ q, patK lo hi k = 2 → ZX g x 6 7 [some (.ref a), some (.int lo), some (.int hi), some (.int k), some (.ref ou), none] w 0 0 cIAE q := fun q hk => ZX.catch ok hQ [(0, 12, 15, 19)] [] rfl (fun z hz => by
    simp only [List.mem_cons, List.not_mem_nil, or_false] at hz
    rcases hz with rfl <;> refine ⟨by decide, ?_⟩
    · exact ⟨_, q1081, (by unfold ncL; decide)⟩) (by decide) (by decide) q1148 q477 (by
    refine Z.astore ok dX0_pieceAt_19 (by decide) (by first | exact isRf.r _ | exact isRf.n | exact isRf.v _ | assumption) ?_
    refine Z.iconst_2 ok dX0_pieceAt_21 ?_
    refine Z.iretH ok hQ (by first | rfl | exact bI_nar _) dX0_pieceAt_22 ?_
    exact LwP.ex h hk (by decide) ho)
  refine Z.aload ok dX0_pieceAt_0 rfl (by first | exact isRf.r _ | exact isRf.n | exact isRf.v _ | assumption) ?_
  refine Z.iconst_0 ok dX0_pieceAt_2 ?_
  refine Z.aload_n ok dX0_pieceAt_3 rfl (by first | exact isRf.r _ | exact isRf.n | exact isRf.v _ | assumption) ?_
  refine Z.iload_n ok dX0_pieceAt_4 rfl ?_
  refine Z.iload_n ok dX0_pieceAt_5 rfl ?_
  refine Z.iload_n ok dX0_pieceAt_6 rfl ?_
  refine Z.callV (kc' := 0) (ks' := 0) (ci := 0) (q := (RX1, TX1, 5)) (C := RX1) ok (pieceAt_ctA lo hi k) ha rfl rfl q1422 q1423 (Or.inl q1424) q16 q1425 nk_X1_pieceAt rfl (by decide) (by first | exact Nat.le_of_ble_eq_true rfl | simp [Value.category, cat_rf]) (by omega) (by omega) dX0_pieceAt_7 rfl (fun E q w' h => by obtain ⟨rfl, ⟨rfl, hb⟩ | ⟨rfl, hb, hc⟩⟩ := h; exact hx1 q (by unfold patK; rw [if_pos hb]); exact hx2 q (by unfold patK; rw [if_neg hb, hc]; rfl)) (fun v w1 hr => ?_)
  obtain ⟨rfl, hq0, hq, rfl⟩ := hr
  have hk : patK lo hi k = 0 := by unfold patK; rw [if_neg hq0, hq]; rfl
  have hF1 := h.le (Nat.le_succ N)
  have hO : FrO w w := FrO.rf
  have ho1 := hO _ _ _ ho (Or.inl (by decide))
  refine Z.i2l ok dX0_pieceAt_10 rfl ?_
  refine Z.last ok ho1 (by decide) (vp_in_nI (N := 1) (show 0 < 1 by decide) (by decide)) dX0_pieceAt_11 ?_
  refine Z.goto (tgt := 23) ok dX0_pieceAt_12 (by decide) ?_
  refine Z.iconst_0 ok dX0_pieceAt_23 ?_
  refine Z.iretH ok hQ (by first | rfl | exact bI_nar _) dX0_pieceAt_24 ?_
  exact LwP.ok hk hF1 hO ho1 rfl
theorem lisQuiet_ct {a ou N : Nat} {f : Nat → Int64} (h : FS g w a S N) (hI : Inv S N) (ho : w ou = some (eJ g 1 f, 3)) (qv : Int32) : CtW g yX0_isQuiet cX0_isQuiet 4 (some .int) [(0, 16, 19, 19)] 12 (200*N+340) (2000*N+3900) [.ref a, .int qv, .ref ou] w (LwP g w a ou S N (qK S qv) (bI (decide (S 1 0 < S 7 (qN qv)))) (S)) noX := by
  refine CtW.of (hh := [(0, 16, 19, 19)]) RX0 "isQuiet" ⟨rfl, rfl⟩ (by decide +kernel) (by simp [Value.category] <;> exact cat_rf _) (Nat.le_of_ble_eq_true rfl) (fun x ok hQ => ?_)
  show Z g x 4 0 [some (.ref a), some (.int qv), some (.ref ou), none] [] w (200*N+340) (2000*N+3900)
  obtain ⟨lq, d, mm, li, qs, LQ, P, LT, X, E, IX, hFS⟩ := id h
  obtain ⟨hB, hX, hR, hV, hE, hL⟩ := id hFS
  have hA := hB.ab
  have ha := hA.1
  obtain ⟨hX60, hq20⟩ := hFS.X60 hI.1
  have hx1 : ∀ q, qK S qv = 1 → ZX g x 4 4 [some (.ref a), some (.int qv), some (.ref ou), none] w 0 0 cIOB q := fun q hk => ZX.catch ok hQ [] [] rfl (fun z hz => by cases hz) (by decide) (by decide) q1081 q1113 (by
    refine Z.astore_n (i := 3) ok dX0_isQuiet_19 rfl (by decide) (by first | exact isRf.r _ | exact isRf.n | exact isRf.v _ | assumption) ?_
    refine Z.iconst_1 ok dX0_isQuiet_20 ?_
    refine Z.iretH ok hQ (by first | rfl | exact bI_nar _) dX0_isQuiet_21 ?_
    exact LwP.ex h hk (by decide) ho)
  refine Z.aload_n ok dX0_isQuiet_0 rfl (by first | exact isRf.r _ | exact isRf.n | exact isRf.v _ | assumption) ?_
  refine Z.iconst_0 ok dX0_isQuiet_1 ?_
  refine Z.aload_n ok dX0_isQuiet_2 rfl (by first | exact isRf.r _ | exact isRf.n | exact isRf.v _ | assumption) ?_
  refine Z.iload_n ok dX0_isQuiet_3 rfl ?_
  refine Z.callV (kc' := 0) (ks' := 0) (ci := 0) (q := (RX1, TX1, 5)) (C := RX1) ok (isQuiet_ctA hA hI.1 qv) ha rfl rfl q1429 q1430 (Or.inl q1431) q16 q1432 nk_X1_isQuiet rfl (by decide) (by first | exact Nat.le_of_ble_eq_true rfl | simp [Value.category, cat_rf]) (by omega) (by omega) dX0_isQuiet_4 rfl (fun E q w' h => by obtain ⟨rfl, rfl, hb⟩ := h; exact hx1 q (by unfold qK; rw [hb]; rfl)) (fun v w1 hr => ?_)
  obtain ⟨rfl, hq, rfl⟩ := hr
  have hk : qK S qv = 0 := by unfold qK; rw [hq]; rfl
  have hF1 := h.le (Nat.le_succ N)
  have hO : FrO w w := FrO.rf
  have ho1 := hO _ _ _ ho (Or.inl (by decide))
  cases hbb : decide (S 1 0 < S 7 (qN qv)) with
  | true =>
    refine Z.if_eq (tgt := 14) ok dX0_isQuiet_7 (by decide) (fun hc => absurd hc (by decide)) (fun _ => ?_)
    refine Z.lconst (v := 1) ok dX0_isQuiet_10 (by decide) ?_
    refine Z.goto (tgt := 15) ok dX0_isQuiet_11 (by decide) ?_
    refine Z.last ok ho1 (by decide) (vp_in_nI (N := 1) (show 0 < 1 by decide) (by decide)) dX0_isQuiet_15 ?_
    refine Z.goto (tgt := 22) ok dX0_isQuiet_16 (by decide) ?_
    refine Z.iconst_0 ok dX0_isQuiet_22 ?_
    refine Z.iretH ok hQ (by first | rfl | exact bI_nar _) dX0_isQuiet_23 ?_
    exact LwP.ok hk hF1 hO ho1 (by rw [hbb]; decide)
  | false =>
    refine Z.if_eq (tgt := 14) ok dX0_isQuiet_7 (by decide) (fun _ => ?_) (fun hc => absurd (by decide) hc)
    refine Z.lconst (v := 0) ok dX0_isQuiet_14 (by decide) ?_
    refine Z.last ok ho1 (by decide) (vp_in_nI (N := 1) (show 0 < 1 by decide) (by decide)) dX0_isQuiet_15 ?_
    refine Z.goto (tgt := 22) ok dX0_isQuiet_16 (by decide) ?_
    refine Z.iconst_0 ok dX0_isQuiet_22 ?_
    refine Z.iretH ok hQ (by first | rfl | exact bI_nar _) dX0_isQuiet_23 ?_
    exact LwP.ok hk hF1 hO ho1 (by rw [hbb]; decide)
theorem lalerts_ct {a ou N : Nat} {f : Nat → Int64} (h : FS g w a S N) (hI : Inv S N) (ho : w ou = some (eJ g 1 f, 3)) (qv : Int32) : CtW g yX0_alerts cX0_alerts 4 (some .int) [(0, 9, 12, 19)] 12 (200*N+340) (2000*N+3900) [.ref a, .int qv, .ref ou] w (LwP g w a ou S N (qK S qv) (S 8 (qN qv)) (S)) noX := by
  refine CtW.of (hh := [(0, 9, 12, 19)]) RX0 "alerts" ⟨rfl, rfl⟩ (by decide +kernel) (by simp [Value.category] <;> exact cat_rf _) (Nat.le_of_ble_eq_true rfl) (fun x ok hQ => ?_)
  show Z g x 4 0 [some (.ref a), some (.int qv), some (.ref ou), none] [] w (200*N+340) (2000*N+3900)
  obtain ⟨lq, d, mm, li, qs, LQ, P, LT, X, E, IX, hFS⟩ := id h
  obtain ⟨hB, hX, hR, hV, hE, hL⟩ := id hFS
  have hA := hB.ab
  have ha := hA.1
  obtain ⟨hX60, hq20⟩ := hFS.X60 hI.1
  have hx1 : ∀ q, qK S qv = 1 → ZX g x 4 4 [some (.ref a), some (.int qv), some (.ref ou), none] w 0 0 cIOB q := fun q hk => ZX.catch ok hQ [] [] rfl (fun z hz => by cases hz) (by decide) (by decide) q1081 q1113 (by
    refine Z.astore_n (i := 3) ok dX0_alerts_12 rfl (by decide) (by first | exact isRf.r _ | exact isRf.n | exact isRf.v _ | assumption) ?_
    refine Z.iconst_1 ok dX0_alerts_13 ?_
    refine Z.iretH ok hQ (by first | rfl | exact bI_nar _) dX0_alerts_14 ?_
    exact LwP.ex h hk (by decide) ho)
  refine Z.aload_n ok dX0_alerts_0 rfl (by first | exact isRf.r _ | exact isRf.n | exact isRf.v _ | assumption) ?_
  refine Z.iconst_0 ok dX0_alerts_1 ?_
  refine Z.aload_n ok dX0_alerts_2 rfl (by first | exact isRf.r _ | exact isRf.n | exact isRf.v _ | assumption) ?_
  refine Z.iload_n ok dX0_alerts_3 rfl ?_
  refine Z.callV (kc' := 0) (ks' := 0) (ci := 0) (q := (RX1, TX1, 5)) (C := RX1) ok (alerts_ctA hA hI.1 qv) ha rfl rfl q1436 q1437 (Or.inl q1438) q16 q1439 nk_X1_alerts rfl (by decide) (by first | exact Nat.le_of_ble_eq_true rfl | simp [Value.category, cat_rf]) (by omega) (by omega) dX0_alerts_4 rfl (fun E q w' h => by obtain ⟨rfl, rfl, hb⟩ := h; exact hx1 q (by unfold qK; rw [hb]; rfl)) (fun v w1 hr => ?_)
  obtain ⟨rfl, hq, rfl⟩ := hr
  have hk : qK S qv = 0 := by unfold qK; rw [hq]; rfl
  have hF1 := h.le (Nat.le_succ N)
  have hO : FrO w w := FrO.rf
  have ho1 := hO _ _ _ ho (Or.inl (by decide))
  refine Z.i2l ok dX0_alerts_7 rfl ?_
  refine Z.last ok ho1 (by decide) (vp_in_nI (N := 1) (show 0 < 1 by decide) (by decide)) dX0_alerts_8 ?_
  refine Z.goto (tgt := 15) ok dX0_alerts_9 (by decide) ?_
  refine Z.iconst_0 ok dX0_alerts_15 ?_
  refine Z.iretH ok hQ (by first | rfl | exact bI_nar _) dX0_alerts_16 ?_
  exact LwP.ok hk hF1 hO ho1 rfl
theorem lbatch_ct {a ou N : Nat} {f : Nat → Int64} (h : FS g w a S N) (hI : Inv S N) (ho : w ou = some (eJ g 1 f, 3)) (qv : Int32) : CtW g yX0_batch cX0_batch 4 (some .int) [(0, 9, 12, 19)] 12 (200*N+340) (2000*N+3900) [.ref a, .int qv, .ref ou] w (LwP g w a ou S N (qK S qv) (S 9 (qN qv)) (S)) noX := by
  refine CtW.of (hh := [(0, 9, 12, 19)]) RX0 "batch" ⟨rfl, rfl⟩ (by decide +kernel) (by simp [Value.category] <;> exact cat_rf _) (Nat.le_of_ble_eq_true rfl) (fun x ok hQ => ?_)
  show Z g x 4 0 [some (.ref a), some (.int qv), some (.ref ou), none] [] w (200*N+340) (2000*N+3900)
  obtain ⟨lq, d, mm, li, qs, LQ, P, LT, X, E, IX, hFS⟩ := id h
  obtain ⟨hB, hX, hR, hV, hE, hL⟩ := id hFS
  have hA := hB.ab
  have ha := hA.1
  obtain ⟨hX60, hq20⟩ := hFS.X60 hI.1
  have hx1 : ∀ q, qK S qv = 1 → ZX g x 4 4 [some (.ref a), some (.int qv), some (.ref ou), none] w 0 0 cIOB q := fun q hk => ZX.catch ok hQ [] [] rfl (fun z hz => by cases hz) (by decide) (by decide) q1081 q1113 (by
    refine Z.astore_n (i := 3) ok dX0_batch_12 rfl (by decide) (by first | exact isRf.r _ | exact isRf.n | exact isRf.v _ | assumption) ?_
    refine Z.iconst_1 ok dX0_batch_13 ?_
    refine Z.iretH ok hQ (by first | rfl | exact bI_nar _) dX0_batch_14 ?_
    exact LwP.ex h hk (by decide) ho)
  refine Z.aload_n ok dX0_batch_0 rfl (by first | exact isRf.r _ | exact isRf.n | exact isRf.v _ | assumption) ?_
  refine Z.iconst_0 ok dX0_batch_1 ?_
  refine Z.aload_n ok dX0_batch_2 rfl (by first | exact isRf.r _ | exact isRf.n | exact isRf.v _ | assumption) ?_
  refine Z.iload_n ok dX0_batch_3 rfl ?_
  refine Z.callV (kc' := 0) (ks' := 0) (ci := 0) (q := (RX1, TX1, 5)) (C := RX1) ok (batch_ctA hA hI.1 qv) ha rfl rfl q1443 q1444 (Or.inl q1445) q16 q1446 nk_X1_batch rfl (by decide) (by first | exact Nat.le_of_ble_eq_true rfl | simp [Value.category, cat_rf]) (by omega) (by omega) dX0_batch_4 rfl (fun E q w' h => by obtain ⟨rfl, rfl, hb⟩ := h; exact hx1 q (by unfold qK; rw [hb]; rfl)) (fun v w1 hr => ?_)
  obtain ⟨rfl, hq, rfl⟩ := hr
  have hk : qK S qv = 0 := by unfold qK; rw [hq]; rfl
  have hF1 := h.le (Nat.le_succ N)
  have hO : FrO w w := FrO.rf
  have ho1 := hO _ _ _ ho (Or.inl (by decide))
  refine Z.i2l ok dX0_batch_7 rfl ?_
  refine Z.last ok ho1 (by decide) (vp_in_nI (N := 1) (show 0 < 1 by decide) (by decide)) dX0_batch_8 ?_
  refine Z.goto (tgt := 15) ok dX0_batch_9 (by decide) ?_
  refine Z.iconst_0 ok dX0_batch_15 ?_
  refine Z.iretH ok hQ (by first | rfl | exact bI_nar _) dX0_batch_16 ?_
  exact LwP.ok hk hF1 hO ho1 rfl
end LAWM
