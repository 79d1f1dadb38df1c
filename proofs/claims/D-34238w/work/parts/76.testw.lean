/-! ===== ALERTINDEX: test, the walk ===== -/
section TESTW
variable {g : Gx} {w : Wd} {S : St}
theorem test_ctA {a lq d mm li M : Nat} {qs : List Nat} {LQ P LT : Nat → Nat} {X : List Nat} {E : List Dt} {IX : IXt} (hB : isBs g w a S lq d mm li qs LQ P LT X) (hX : isIX g w mm E IX P) (hI : InvA S) (hV : ∀ n a b j, j ∈ IX n a b → vP S j) (hM : M < 100000) (hEM : E.length + 10 ≤ M) (hIM : ∀ n a b, (IX n a b).length + 10 ≤ M) (qv nm lo hi b : Int32) (hb01 : b = 0 ∨ b = 1) : Ct g yX1_test cX1_test 10 (some .int) 11 (20*M+140) (200*M+1900) [.ref a, .int qv, .int nm, .int lo, .int hi, .int b] w (fun o w' => testK S qv nm lo hi = 0 ∧ o = rI (S 10 (lastN S (qN qv)) + 1) ∧ ∃ E' IX', isBs g w' a (testS S (qN qv) nm lo hi b) lq d mm li qs LQ P LT X ∧ isIX g w' mm E' IX' P ∧ E'.length ≤ E.length + 10 ∧ IX' = (if b = 0 then layF (qN hi) (qN nm) (lastN S (qN qv)) 64 (qN lo) IX else IX) ∧ FrO w w') (fun E w' => w = w' ∧ ((E = cIOB ∧ testK S qv nm lo hi = 1) ∨ (E = cIAE ∧ testK S qv nm lo hi = 2) ∨ (E = cISE ∧ testK S qv nm lo hi = 3))) := by
  refine Ct.of RX1 "test" ⟨rfl, rfl⟩ (by decide +kernel) (by simp [Value.category] <;> exact cat_rf _) (Nat.le_of_ble_eq_true rfl) (fun x ok hQ hN => ?_)
  show Z g x 10 0 [some (.ref a), some (.int qv), some (.int nm), some (.int lo), some (.int hi), some (.int b), none, none, none, none] [] w (20*M+140) (200*M+1900)
  have hA := hB.ab
  have ha := hA.1
  refine Z.aload_n ok dX1_test_0 rfl (by first | exact isRf.r _ | exact isRf.n | exact isRf.v _ | assumption) ?_
  refine Z.iload_n ok dX1_test_1 rfl ?_
  refine Z.callV (kc' := (20*M+138)) (ks' := (200*M+1888)) (ci := 0) (q := (RX1, TX1, 5)) (C := RX1) ok (find_ctA hA hI qv) (by first | assumption | exact ws_s | exact hT _ (by assumption) | (rw [ws_n (by assumption)]; assumption)) rfl rfl q1104 q1106 (Or.inl qs5) q16 q1107 nk_X1_find rfl (by decide) (by first | exact Nat.le_of_ble_eq_true rfl | simp [Value.category, cat_rf]) (by omega) (by omega) dX1_test_2 rfl (fun E q w' h => ZX.out ok hQ ⟨h.2.1, Or.inl ⟨h.1, by have := h.2.2; unfold testK; rw [this]; rfl⟩⟩) (fun v w1 hr => ?_)
  obtain ⟨rfl, hq, i, q, rfl, hiq, hi20, h0, rfl, hgi⟩ := hr
  have e : qN (nI i) = i := nI_clamp (by omega)
  have hqi := hB.2.2.2.2.2.1 _ _ hgi
  obtain ⟨hLi, hn3⟩ := hB.2.2.2.2.2.2.1 i hiq
  obtain ⟨fi, hio⟩ := hLi.obj
  refine Z.astore ok dX1_test_5 (by decide) (by first | exact isRf.r _ | exact isRf.n | exact isRf.v _ | assumption) ?_
  refine Z.iload_n ok dX1_test_7 rfl ?_
  refine Z.bipush (v := 6) ok dX1_test_8 (by decide) ?_
  refine Z.callS (kc' := (20*M+137)) (ks' := (200*M+1882)) ok (exists_ct nm 6) q1108 q1109 q16 q1110 nk_X1_exists rfl (by decide) (by first | exact Nat.le_of_ble_eq_true rfl | simp [Value.category, cat_rf]) (by omega) (by omega) dX1_test_10 rfl (fun E q w' h => ZX.out ok hQ ⟨h.2.1, Or.inl ⟨h.1, by have := h.2.2; rw [ex_in] at this; unfold testK; rw [this, Bool.and_false]; rfl⟩⟩) (fun v w1 hr => ?_)
  obtain ⟨rfl, rfl, hnm⟩ := hr
  rw [ex_in] at hnm
  obtain ⟨n, hn, rfl, en⟩ := inB_nI (n := 5) (by decide) hnm
  have hk1 : (isQ S (nI i) && inB (nI n) 0 5) = true := by rw [hq, hnm]; rfl
  have key : ∀ bb : Bool, bb = rngB lo hi → Z g x 10 39 [some (.ref a), some (.int (nI i)), some (.int (nI n)), some (.int lo), some (.int hi), some (.int b), some (.ref q), none, none, none] [.int (bI bb)] w (20*M+137) (200*M+1882) := by
    intro bb hbb
    refine Z.callS (kc' := (20*M+136)) (ks' := (200*M+1876)) ok (want_ct bb) q1156 q1157 q16 q1158 nk_X1_want rfl (by decide) (by first | exact Nat.le_of_ble_eq_true rfl | simp [Value.category, cat_rf]) (by omega) (by omega) dX1_test_39 rfl (fun E q w' h => ZX.out ok hQ ⟨h.2.1, Or.inr (Or.inl ⟨h.1, by unfold testK; rw [if_pos hk1, if_neg (by rw [← hbb, h.2.2]; decide)]⟩)⟩) (fun v w1 hr => ?_)
    obtain ⟨rfl, rfl, hbt⟩ := hr
    have hrg : rngB lo hi = true := hbb ▸ hbt
    obtain ⟨c, d', h1, h2, rfl, rfl, e1, e2⟩ := rngB_nI hrg
    have hk2 : testK S (nI i) (nI n) (nI c) (nI d') = if 0 < np S i ∧ nt S (lastN S i) < 4 then 0 else 3 := by
      unfold testK
      rw [if_pos hk1, if_pos hrg, e]
    refine Z.aload ok dX1_test_42 rfl (by first | exact isRf.r _ | exact isRf.n | exact isRf.v _ | assumption) ?_
    refine Z.get (ci := 2) (C := RX3) (T := TX3) (N := 6) ok hqi rfl in_X3 0 (by decide) q1021 (Or.inl rfl) (by rfl) dX1_test_44 ?_
    refine Z.callF (ci := 6) (q := (RJ2, TJ2, 3)) (C := RJ2) ok (alistEmpty_ct hLi (by rw [prL_len]; omega)) hio rfl rfl q1165 ⟨q969, q968, q973, q971, q146⟩ q972 (Or.inl q970) q19 q974 nkF_List_isEmpty rfl (by decide) (by first | exact Nat.le_of_ble_eq_true rfl | simp [Value.category, cat_rf]) (Nat.le_refl _) (Nat.le_refl _) dX1_test_47 rfl ZX.no (fun v w1 hr => ?_)
    obtain ⟨rfl, rfl⟩ := hr
    rw [prL_len]
    by_cases hz : np S i = 0
    · refine Z.if_ne (tgt := 59) ok dX1_test_52 (by decide) (fun _ => ?_) (fun hc => absurd hc (by rw [decide_eq_true hz]; decide))
      refine Z.iconst_0 ok dX1_test_59 ?_
      refine Z.callS (kc' := 0) (ks' := 0) ok (allow_ct false) q989 q990 q16 q991 nk_X1_allow rfl (by decide) (by first | exact Nat.le_of_ble_eq_true rfl | simp [Value.category, cat_rf]) (by omega) (by omega) dX1_test_60 rfl (fun E q w' h => ZX.out ok hQ ⟨h.2.1, Or.inr (Or.inr ⟨h.1, by rw [hk2, if_neg (by omega)]⟩)⟩) (fun v w1 hr => ?_)
      exact absurd hr.2.2 (by decide)
    · refine Z.if_ne (tgt := 59) ok dX1_test_52 (by decide) (fun hc => absurd (by rw [decide_eq_false hz]; decide) hc) (fun _ => ?_)
      refine Z.iconst_1 ok dX1_test_55 ?_
      refine Z.goto (tgt := 60) ok dX1_test_56 (by decide) ?_
      refine Z.callS (kc' := (20*M+135)) (ks' := (200*M+1870)) ok (allow_ct true) q989 q990 q16 q991 nk_X1_allow rfl (by decide) (by first | exact Nat.le_of_ble_eq_true rfl | simp [Value.category, cat_rf]) (by omega) (by omega) dX1_test_60 rfl (fun E q w' h => absurd h.2.2 (by decide)) (fun v w1 hr => ?_)
      obtain ⟨rfl, rfl, -⟩ := hr
      refine Z.aload ok dX1_test_63 rfl (by first | exact isRf.r _ | exact isRf.n | exact isRf.v _ | assumption) ?_
      refine Z.get (ci := 2) (C := RX3) (T := TX3) (N := 6) ok hqi rfl in_X3 0 (by decide) q1021 (Or.inl rfl) (by rfl) dX1_test_65 ?_
      refine Z.aload ok dX1_test_68 rfl (by first | exact isRf.r _ | exact isRf.n | exact isRf.v _ | assumption) ?_
      refine Z.get (ci := 2) (C := RX3) (T := TX3) (N := 6) ok hqi rfl in_X3 0 (by decide) q1021 (Or.inl rfl) (by rfl) dX1_test_70 ?_
      refine Z.callF (ci := 6) (q := (RJ2, TJ2, 3)) (C := RJ2) ok (alistSize_ct hLi) hio rfl rfl q143 ⟨q145, q144, q150, q148, q146⟩ q149 (Or.inl q147) q19 q151 nkF_List_size rfl (by decide) (by first | exact Nat.le_of_ble_eq_true rfl | simp [Value.category, cat_rf]) (Nat.le_refl _) (Nat.le_refl _) dX1_test_73 rfl ZX.no (fun v w1 hr => ?_)
      obtain ⟨rfl, rfl⟩ := hr
      rw [prL_len]
      refine Z.iconst_1 ok dX1_test_78 ?_
      refine Z.isub ok dX1_test_79 ?_
      obtain ⟨k, hk⟩ : ∃ k, np S i = k + 1 := ⟨np S i - 1, by omega⟩
      have es : nI (np S i) - 1 = nI k := by rw [hk]; exact nI_pred _
      rw [es]
      have ei0 : lastN S i = 3 * i + k := by show 3 * i + np S i - 1 = _; omega
      have hgk : (prL S P i)[k]? = some (P (lastN S i)) := by
        unfold prL
        rw [List.getElem?_map, List.getElem?_range (by omega), ei0]
        rfl
      have hv : vP S (lastN S i) := by rw [ei0]; exact vP_of hiq (by omega) hn3
      refine Z.callF (ci := 6) (q := (RJ2, TJ2, 3)) (C := RJ2) ok (alistGet_ct hLi hgk (by rw [prL_len]; omega)) hio rfl rfl q153 ⟨q155, q154, q159, q157, q146⟩ q158 (Or.inl q156) q19 q160 nkF_List_get rfl (by decide) (by first | exact Nat.le_of_ble_eq_true rfl | simp [Value.category, cat_rf]) (Nat.le_refl _) (Nat.le_refl _) dX1_test_80 rfl ZX.no (fun v w1 hr => ?_)
      obtain ⟨rfl, rfl⟩ := hr
      obtain ⟨fd, ts, c1, c2, c3, c4, c5⟩ := hB.2.2.2.2.2.2.2.1 _ hv
      obtain ⟨ft, hto⟩ := c2.obj
      have h10 : S 10 (lastN S i) = nI (nt S (lastN S i)) := (hI.2.2.1 _ (by omega)).1
      refine Z.castS (ci := 3) (q := (RX4, TX4, 3)) ok c1 rfl rfl q251 dX1_test_85 ?_
      refine Z.astore ok dX1_test_88 (by decide) (by first | exact isRf.r _ | exact isRf.n | exact isRf.v _ | assumption) ?_
      refine Z.aload ok dX1_test_90 rfl (by first | exact isRf.r _ | exact isRf.n | exact isRf.v _ | assumption) ?_
      refine Z.get (ci := 3) (C := RX4) (T := TX4) (N := 3) ok c1 rfl in_X4 0 (by decide) q1134 (Or.inl rfl) (by rfl) dX1_test_92 ?_
      refine Z.callF (ci := 6) (q := (RJ2, TJ2, 3)) (C := RJ2) ok (alistSize_ct c2) hto rfl rfl q143 ⟨q145, q144, q150, q148, q146⟩ q149 (Or.inl q147) q19 q151 nkF_List_size rfl (by decide) (by first | exact Nat.le_of_ble_eq_true rfl | simp [Value.category, cat_rf]) (Nat.le_refl _) (Nat.le_refl _) dX1_test_95 rfl ZX.no (fun v w1 hr => ?_)
      obtain ⟨rfl, rfl⟩ := hr
      rw [c3]
      refine Z.iconst_4 ok dX1_test_100 ?_
      by_cases h4 : nt S (lastN S i) < 4
      · refine Z.icmp_ge (tgt := 108) ok dX1_test_101 (by decide) (fun hc => absurd hc (show ¬ nI 4 ≤ nI (nt S (lastN S i)) from nI_ge h4 (by decide))) (fun _ => ?_)
        refine Z.iconst_1 ok dX1_test_104 ?_
        refine Z.goto (tgt := 109) ok dX1_test_105 (by decide) ?_
        refine Z.callS (kc' := (20*M+134)) (ks' := (200*M+1864)) ok (allow_ct true) q989 q990 q16 q991 nk_X1_allow rfl (by decide) (by first | exact Nat.le_of_ble_eq_true rfl | simp [Value.category, cat_rf]) (by omega) (by omega) dX1_test_109 rfl (fun E q w' h => absurd h.2.2 (by decide)) (fun v w1 hr => ?_)
        obtain ⟨rfl, rfl, -⟩ := hr
        refine Z.iload_n ok dX1_test_112 rfl ?_
        refine Z.iload_n ok dX1_test_113 rfl ?_
        refine Z.iload ok dX1_test_114 rfl ?_
        refine Z.iload ok dX1_test_116 rfl ?_
        refine Z.callS (kc' := (20*M+132)) (ks' := (200*M+1860)) ok (testOf_ct (n := nI n) (lo := nI c) (hi := nI d') hb01) q1166 q1167 q39 q1168 nk_X5_of rfl (by decide) (by first | exact Nat.le_of_ble_eq_true rfl | simp [Value.category, cat_rf]) (by omega) (by omega) dX1_test_118 rfl ZX.no (fun v w2 hr => ?_)
        obtain ⟨t, rfl, htn, hF2, ht⟩ := hr
        have hF2' : ∀ b y t, w b = some (y, t) → w2 b = some (y, t) := fun b y t hb => (hF2 b (by rw [hb]; exact Option.some_ne_none _)).trans hb
        have c22 := c2.fr hF2
        have hto2 := hF2' _ _ _ hto
        have c12 := hF2' _ _ _ c1
        have ha2 := hF2' _ _ _ ha
        have htl : t ≠ LT (lastN S i) := fun z => by rw [← z, htn] at hto; cases hto
        have hcl : ∀ ci, ci = 4 ∨ ci = 5 → ∃ r, clA[ci]? = some r ∧ Cond.castable r.1 "java/lang/Object" ∈ lw_tbl := fun ci h => by
          rcases h with rfl | rfl
          · exact ⟨_, rfl, (q1650)⟩
          · exact ⟨_, rfl, (q1651)⟩
        have hte : ∀ y, y ∈ ts → isOb w2 y ∧ ∃ fs ci, w2 y = some (ob ci fs, 18) ∧ (ci = 4 ∨ ci = 5) := fun y hy => by
          obtain ⟨k, hk⟩ := List.mem_iff_getElem?.mp hy
          obtain ⟨ci, fs, h, h'⟩ := (c5 k y hk).obj
          obtain ⟨r, hr1, hr2⟩ := hcl ci h'
          exact ⟨⟨ci, r, fs, _, hr1, hr2, hF2' _ _ _ h⟩, fs, ci, hF2' _ _ _ h, h'⟩
        have htk : ∃ ci fs, w2 t = some (ob ci fs, 18) ∧ (ci = 4 ∨ ci = 5) := by
          rcases ht with ⟨-, z⟩ | ⟨-, r, z, -⟩
          · exact ⟨_, _, z, Or.inl rfl⟩
          · exact ⟨_, _, z, Or.inr rfl⟩
        obtain ⟨cv, vs, ht2, hcv⟩ := htk
        obtain ⟨rv, hrv1, hrv2⟩ := hcl cv hcv
        refine Z.astore ok dX1_test_121 (by decide) (by first | exact isRf.r _ | exact isRf.n | exact isRf.v _ | assumption) ?_
        refine Z.aload ok dX1_test_123 rfl (by first | exact isRf.r _ | exact isRf.n | exact isRf.v _ | assumption) ?_
        refine Z.get (ci := 3) (C := RX4) (T := TX4) (N := 3) ok c12 rfl in_X4 0 (by decide) q1134 (Or.inl rfl) (by rfl) dX1_test_125 ?_
        refine Z.aload ok dX1_test_128 rfl (by first | exact isRf.r _ | exact isRf.n | exact isRf.v _ | assumption) ?_
        refine Z.callF (kc' := (20*M+131)) (ks' := (200*M+1840)) (ci := 6) (q := (RJ2, TJ2, 3)) (C := RJ2) ok (alistAddG_ct (v := t) c22 (by decide) (by omega) (fun y hy => (hte y hy).1) (fun hy => by obtain ⟨-, fs, ci, hz, hz2⟩ := hte _ hy; rw [hto2] at hz; cases hz) ht2 htl (by omega) hrv1 hrv2) hto2 rfl rfl q1045 ⟨q1047, q1046, q1051, q1049, q146⟩ q1050 (Or.inl q1048) q19 q1052 nkF_List_add rfl (by decide) (by first | exact Nat.le_of_ble_eq_true rfl | simp [Value.category, cat_rf]) (by omega) (by omega) dX1_test_130 rfl ZX.no (fun v w3 hr => ?_)
        obtain ⟨rfl, hL3, hF3⟩ := hr
        have hFN : FrN w w3 [LT (lastN S i)] := fun b y t hb h1 h2 => hF3 b y t (hF2' b y t hb) (fun z => h1 (by rw [z]; exact List.mem_singleton_self _)) (h2 _ (List.mem_singleton_self _))
        obtain ⟨hS, s11, s12, s13, s14⟩ := testS_row S i (nI n) (nI c) (nI d') b h10 (by omega)
        have ht3 : ∀ x y, w2 x = some (y, 18) → w3 x = some (y, 18) := fun x y hx => hF3 x y 18 hx (fun z => by rw [z, hto2] at hx; cases hx) (by omega)
        have hk2' : isTst w3 (testS S i (nI n) (nI c) (nI d') b) (4 * lastN S i + nt S (lastN S i)) t := by
          rcases ht with ⟨z, z2⟩ | ⟨z, r, z2, z3⟩
          · exact Or.inl ⟨by rw [s14]; exact z, by unfold isRng; rw [s11, s12, s13]; exact ht3 _ _ z2⟩
          · exact Or.inr ⟨by rw [s14]; exact z, r, ht3 _ _ z2, by unfold isRng; rw [s11, s12, s13]; exact ht3 _ _ z3⟩
        obtain ⟨r1, r2⟩ := hB.test hS hv h4 hFN c2 c3 c5 hL3 hk2'
        have hX3 := hX.keep (hFN.I r2)
        have hO3 := hFN.O r2
        have ha3 := hFN.ob r2 ha (by decide)
        have c13 := hFN.ob r2 c1 (by decide)
        have fin : ∀ (w4 : Wd) (l9 : Option Value) (E' : List Dt) (IX' : IXt), isBs g w4 a (testS S i (nI n) (nI c) (nI d') b) lq d mm li qs LQ P LT X → isIX g w4 mm E' IX' P → E'.length ≤ E.length + 10 → IX' = (if b = 0 then layF d' n (lastN S i) 64 c IX else IX) → FrO w w4 → ∀ kc ks, Z g x 10 159 [some (.ref a), some (.int (nI i)), some (.int (nI n)), some (.int (nI c)), some (.int (nI d')), some (.int b), some (.ref q), some (.ref (P (lastN S i))), some (.ref t), l9] [] w4 kc ks := by
          intro w4 l9 E' IX' b1 b2 b3 b4 b5 kc ks
          obtain ⟨fd4, ts4, d1, d2, d3, d4, -⟩ := b1.2.2.2.2.2.2.2.1 _ ((hS.vPi _).mpr hv)
          obtain ⟨ft4, hto4⟩ := d2.obj
          refine Z.aload ok dX1_test_159 rfl (by first | exact isRf.r _ | exact isRf.n | exact isRf.v _ | assumption) ?_
          refine Z.get (ci := 3) (C := RX4) (T := TX4) (N := 3) ok d1 rfl in_X4 0 (by decide) q1134 (Or.inl rfl) (by rfl) dX1_test_161 ?_
          refine Z.callF (ci := 6) (q := (RJ2, TJ2, 3)) (C := RJ2) ok (alistSize_ct d2) hto4 rfl rfl q143 ⟨q145, q144, q150, q148, q146⟩ q149 (Or.inl q147) q19 q151 nkF_List_size rfl (by decide) (by first | exact Nat.le_of_ble_eq_true rfl | simp [Value.category, cat_rf]) (Nat.le_refl _) (Nat.le_refl _) dX1_test_164 rfl ZX.no (fun v w5 hr => ?_)
          obtain ⟨rfl, rfl⟩ := hr
          rw [d3]
          refine Z.iret ok hQ (by first | rfl | exact bI_nar _) dX1_test_169 ?_
          refine ⟨by rw [hk2, if_pos ⟨by omega, h4⟩], ?_, E', IX', by rw [e]; exact b1, b2, b3, by rw [e1, e2, en, e]; exact b4, b5⟩
          rw [e, h10, nI_1, hS.2.1, if_pos rfl]
        rcases ht with ⟨rfl, hz2⟩ | ⟨rfl, r, hz2, -⟩
        · have hr3 := ht3 _ _ hz2
          have hrng : isRng w3 (testS S i (nI n) (nI c) (nI d') 0) (4 * lastN S i + nt S (lastN S i)) t := by unfold isRng; rw [s11, s12, s13]; exact hr3
          refine Z.pop ok dX1_test_135 (by first | rfl | exact cat_rf _) ?_
          refine Z.aload ok dX1_test_136 rfl (by first | exact isRf.r _ | exact isRf.n | exact isRf.v _ | assumption) ?_
          refine Z.instS (ci := 4) (q := (RX6, TX6, 3)) ok hr3 rfl rfl q1198 dX1_test_138 ?_
          refine Z.if_eq (tgt := 159) ok dX1_test_141 (by decide) (fun hc => absurd hc (by decide)) (fun _ => ?_)
          refine Z.aload ok dX1_test_144 rfl (by first | exact isRf.r _ | exact isRf.n | exact isRf.v _ | assumption) ?_
          refine Z.castS (ci := 4) (q := (RX6, TX6, 3)) ok hr3 rfl rfl q1198 dX1_test_146 ?_
          refine Z.astore ok dX1_test_149 (by decide) (by first | exact isRf.r _ | exact isRf.n | exact isRf.v _ | assumption) ?_
          refine Z.aload_n ok dX1_test_151 rfl (by first | exact isRf.r _ | exact isRf.n | exact isRf.v _ | assumption) ?_
          refine Z.aload ok dX1_test_152 rfl (by first | exact isRf.r _ | exact isRf.n | exact isRf.v _ | assumption) ?_
          refine Z.aload ok dX1_test_154 rfl (by first | exact isRf.r _ | exact isRf.n | exact isRf.v _ | assumption) ?_
          have hp10 := pieces_10 c (by omega) d' (by omega)
          have hml1 := Nat.mul_le_mul_right (2 * M + 12) hp10
          have hml2 := Nat.mul_le_mul_right (20 * M + 180) hp10
          refine Z.callV (kc' := 0) (ks' := 0) (ci := 0) (q := (RX1, TX1, 5)) (C := RX1) ok (lay_ct (S := testS S i (nI n) (nI c) (nI d') 0) (M := M) (V := vP S) ha3 hrng s11 s12 s13 (by omega) h1 h2 hv (fun j hj => by obtain ⟨fd, _, z, -⟩ := r1.2.2.2.2.2.2.2.1 j ((hS.vPi j).mpr hj); exact ⟨_, _, fd, z⟩) hM (by omega) (fun n a b => by have := hIM n a b; omega) hV hX3 rfl rfl) ha3 rfl rfl q1199 q1201 (Or.inl qs6) q16 q1202 nk_X1_lay rfl (by decide) (by first | exact Nat.le_of_ble_eq_true rfl | simp [Value.category, cat_rf]) (by omega) (by omega) dX1_test_156 rfl ZX.no (fun v w4 hr => ?_)
          obtain ⟨rfl, E', hE', hX4, hY4⟩ := hr
          exact fin w4 _ E' _ (r1.frX hY4.1) hX4 (by omega) (if_pos rfl).symm (hO3.tr hY4.2) _ _
        · have hr3 := ht3 _ _ hz2
          refine Z.pop ok dX1_test_135 (by first | rfl | exact cat_rf _) ?_
          refine Z.aload ok dX1_test_136 rfl (by first | exact isRf.r _ | exact isRf.n | exact isRf.v _ | assumption) ?_
          refine Z.instNo (ci := 5) (q := (RX7, TX7, 1)) ok hr3 rfl (by decide +kernel) q1198 dX1_test_138 ?_
          refine Z.if_eq (tgt := 159) ok dX1_test_141 (by decide) (fun _ => ?_) (fun hc => absurd rfl hc)
          exact fin w3 _ E IX r1 hX3 (by omega) (if_neg (by decide)).symm hO3 _ _
      · refine Z.icmp_ge (tgt := 108) ok dX1_test_101 (by decide) (fun _ => ?_) (fun hc => absurd (show nI 4 ≤ nI (nt S (lastN S i)) from nI_le (by omega) (by omega)) hc)
        refine Z.iconst_0 ok dX1_test_108 ?_
        refine Z.callS (kc' := 0) (ks' := 0) ok (allow_ct false) q989 q990 q16 q991 nk_X1_allow rfl (by decide) (by first | exact Nat.le_of_ble_eq_true rfl | simp [Value.category, cat_rf]) (by omega) (by omega) dX1_test_109 rfl (fun E q w' h => ZX.out ok hQ ⟨h.2.1, Or.inr (Or.inr ⟨h.1, by rw [hk2, if_neg (fun z => h4 z.2)]⟩)⟩) (fun v w1 hr => ?_)
        exact absurd hr.2.2 (by decide)
  refine Z.iload_n ok dX1_test_13 rfl ?_
  refine Z.iconst_0 ok dX1_test_14 ?_
  refine Z.bipush (v := 63) ok dX1_test_15 (by decide) ?_
  refine Z.callS ok (isIn_ct lo 0 63) q1153 q1154 q16 q1155 nk_X1_isIn rfl (by decide) (by first | exact Nat.le_of_ble_eq_true rfl | simp [Value.category, cat_rf]) (Nat.le_refl _) (Nat.le_refl _) dX1_test_17 rfl ZX.no (fun v w1 hr => ?_)
  obtain ⟨rfl, rfl⟩ := hr
  have no : rngB lo hi = false → Z g x 10 38 [some (.ref a), some (.int (nI i)), some (.int (nI n)), some (.int lo), some (.int hi), some (.int b), some (.ref q), none, none, none] [] w (20*M+137) (200*M+1882) := by
    intro h
    refine Z.iconst_0 ok dX1_test_38 ?_
    exact key false h.symm
  by_cases h1 : bI (inB lo 0 63) = 0
  · refine Z.if_eq (tgt := 38) ok dX1_test_20 (by decide) (fun _ => ?_) (fun hc => absurd h1 hc)
    exact no (by unfold rngB; rw [bI_0.mp h1]; rfl)
  · refine Z.if_eq (tgt := 38) ok dX1_test_20 (by decide) (fun hc => absurd hc h1) (fun _ => ?_)
    refine Z.iload ok dX1_test_23 rfl ?_
    refine Z.iload_n ok dX1_test_25 rfl ?_
    refine Z.bipush (v := 63) ok dX1_test_26 (by decide) ?_
    refine Z.callS ok (isIn_ct hi lo 63) q1153 q1154 q16 q1155 nk_X1_isIn rfl (by decide) (by first | exact Nat.le_of_ble_eq_true rfl | simp [Value.category, cat_rf]) (Nat.le_refl _) (Nat.le_refl _) dX1_test_28 rfl ZX.no (fun v w1 hr => ?_)
    obtain ⟨rfl, rfl⟩ := hr
    by_cases h2 : bI (inB hi lo 63) = 0
    · refine Z.if_eq (tgt := 38) ok dX1_test_31 (by decide) (fun _ => ?_) (fun hc => absurd h2 hc)
      exact no (by unfold rngB; rw [bI_0.mp h2, Bool.and_false])
    · refine Z.if_eq (tgt := 38) ok dX1_test_31 (by decide) (fun hc => absurd hc h2) (fun _ => ?_)
      refine Z.iconst_1 ok dX1_test_34 ?_
      refine Z.goto (tgt := 39) ok dX1_test_35 (by decide) ?_
      exact key true (by unfold rngB; rw [bI_n0.mp h1, bI_n0.mp h2]; rfl)
end TESTW
