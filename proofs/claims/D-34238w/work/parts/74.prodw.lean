/-! ===== ALERTINDEX: product, the walk ===== -/
section PRODUCTW
variable {g : Gx} {w : Wd} {S : St}
theorem prL_len {P : Nat → Nat} {j : Nat} : (prL S P j).length = np S j := by simp [prL]
theorem product_ctA {a lq d mm li : Nat} {qs : List Nat} {LQ P LT : Nat → Nat} {X : List Nat} {E : List Dt} {IX : IXt} (hB : isBs g w a S lq d mm li qs LQ P LT X) (hX : isIX g w mm E IX P) (hI : InvA S) (hZ : ∀ i, ¬ vP S i → nt S i = 0) (hV : ∀ n a b j, j ∈ IX n a b → vP S j) (hX6 : X.length < 1000) (qv : Int32) : Ct g yX1_product cX1_product 4 (some .int) 7 7 (50+2*X.length) [.ref a, .int qv] w (fun o w' => prodK S qv = 0 ∧ o = rI (S 5 (qN qv) + 1) ∧ ∃ P' LT' X', isBs g w' a (prodS S (qN qv)) lq d mm li qs LQ P' LT' X' ∧ isIX g w' mm E IX P' ∧ FrO w w') (fun E w' => w = w' ∧ ((E = cIOB ∧ prodK S qv = 1) ∨ (E = cISE ∧ prodK S qv = 2))) := by
  refine Ct.of RX1 "product" ⟨rfl, rfl⟩ (by decide +kernel) (by simp [Value.category] <;> exact cat_rf _) (Nat.le_of_ble_eq_true rfl) (fun x ok hQ hN => ?_)
  show Z g x 4 0 [some (.ref a), some (.int qv), none, none] [] w 7 (50+2*X.length)
  have hA := hB.ab
  have ha := hA.1
  refine Z.aload_n ok dX1_product_0 rfl (by first | exact isRf.r _ | exact isRf.n | exact isRf.v _ | assumption) ?_
  refine Z.iload_n ok dX1_product_1 rfl ?_
  refine Z.callV (kc' := 5) (ks' := (38+2*X.length)) (ci := 0) (q := (RX1, TX1, 5)) (C := RX1) ok (find_ctA hA hI qv) (by first | assumption | exact ws_s | exact hT _ (by assumption) | (rw [ws_n (by assumption)]; assumption)) rfl rfl q1104 q1106 (Or.inl qs5) q16 q1107 nk_X1_find rfl (by decide) (by first | exact Nat.le_of_ble_eq_true rfl | simp [Value.category, cat_rf]) (by omega) (by omega) dX1_product_2 rfl (fun E q w' h => ZX.out ok hQ ⟨h.2.1, Or.inl ⟨h.1, by have := h.2.2; unfold prodK; rw [this]; rfl⟩⟩) (fun v w1 hr => ?_)
  obtain ⟨rfl, hq, i, q, rfl, hi, hi20, h0, rfl, hgi⟩ := hr
  have e : qN (nI i) = i := nI_clamp (by omega)
  have hqi := hB.2.2.2.2.2.1 _ _ hgi
  obtain ⟨hLi, hn3⟩ := hB.2.2.2.2.2.2.1 i hi
  have h5 := (hI.2.1 i hi20).1
  obtain ⟨fi, hio⟩ := hLi.obj
  have hLx := hB.2.2.2.2.2.2.2.2.2.2.2.2.2
  obtain ⟨fx, hxo⟩ := hLx.obj
  have hk : prodK S (nI i) = if np S i = 3 then 2 else 0 := by
    unfold prodK
    rw [hq, e, h5]
    by_cases z : np S i = 3
    · rw [if_pos z, z]; rfl
    · rw [if_neg z, if_pos rfl, if_neg (show ¬ nI (np S i) = 3 from fun c => z ((nI_eq (by omega) (by decide)).mp (show nI (np S i) = nI 3 from c)))]
  have key : ∀ b : Bool, b = decide (np S i < 3) → Z g x 4 24 [some (.ref a), some (.int (nI i)), some (.ref q), none] [.int (bI b)] w 5 (38+2*X.length) := by
    intro b hb
    refine Z.callS (kc' := 4) (ks' := (32+2*X.length)) ok (allow_ct b) q989 q990 q16 q991 nk_X1_allow rfl (by decide) (by first | exact Nat.le_of_ble_eq_true rfl | simp [Value.category, cat_rf]) (by omega) (by omega) dX1_product_24 rfl (fun E q w' h => ZX.out ok hQ ⟨h.2.1, Or.inr ⟨h.1, by have h2 := h.2.2; rw [hb] at h2; have := of_decide_eq_false h2; rw [hk, if_pos (by omega)]⟩⟩) (fun v w1 hr => ?_)
    obtain ⟨rfl, rfl, hb2⟩ := hr
    have h3 : np S i < 3 := of_decide_eq_true (hb ▸ hb2)
    have nv : ¬ vP S (3 * i + np S i) := fun z => by
      obtain ⟨z1, z2⟩ := z
      have a1 : (3 * i + np S i) / 3 = i := by omega
      rw [a1] at z2
      omega
    refine Z.room (kc' := 3 + 1) (ks' := (29 + 2 * X.length) + 3) (by omega) (by omega) ?_
    refine Z.new (ci := 3) (C := RX4) (T := TX4) (N := 3) (fs := [.null, .int 0, .int 0]) (ty := tyX4) 16 ok rfl in_X4 tyX4_ok q251 q1126 q37 (def_ok (by decide +kernel)) (Nat.le_refl _) (Nat.le_refl _) dX1_product_27 (fun p hpn hpA => ?_)
    refine Z.dup ok dX1_product_30 (by first | rfl | exact cat_rf _) ?_
    refine Z.iload_n ok dX1_product_31 rfl ?_
    refine Z.callI (kc' := 2) (ks' := (26+2*X.length)) ok (pInit_ct (i := nI i) ws_s) q1127 q1128 q37 q1129 rfl nk_X4_init rfl (by decide) (by first | exact Nat.le_of_ble_eq_true rfl | simp [Value.category, cat_rf]) (by omega) (by omega) dX1_product_32 rfl ZX.no (fun v w2 hr => ?_)
    obtain ⟨rfl, l, hl0, hp2, hL2, hF2⟩ := hr
    have hwl : w l = none := by
      cases hx : w l with
      | none => rfl
      | some y =>
        have hlp : l ≠ p := fun z => by rw [z, hpn] at hx; cases hx
        rw [ws_n hlp, hx] at hl0
        cases hl0
    have hF3 : ∀ b y t, w b = some (y, t) → t ≠ 1000 + l → w2 b = some (y, t) := fun b y t hb ht => by
      have hbq : b ≠ p := fun z => by rw [z, hpn] at hb; cases hb
      exact hF2 b y t ((ws_n hbq).trans hb) hbq ht
    have hlk : ∀ {l' tl : Nat} {xs : List Nat}, isL g w l' tl xs → tl < 1000 → isL g w2 l' tl xs := fun {l' tl xs} h' ht => by
      obtain ⟨fz, hzo⟩ := h'.obj
      refine h'.kept (fun b y t hb hc => hF3 b y t hb ?_)
      rcases hc with rfl | rfl
      · rw [hzo] at hb
        cases hb
        omega
      · have : l' ≠ l := fun z => by rw [z, hwl] at hzo; cases hzo
        omega
    have hLi2 := hlk hLi (by decide)
    have hLx2 := hlk hLx (by decide)
    have hio2 := hF3 _ _ _ hio (by omega)
    have hxo2 := hF3 _ _ _ hxo (by omega)
    have hqi2 := hF3 _ _ _ hqi (by omega)
    have ha2 := hF3 _ _ _ ha (by omega)
    have hpe : ∀ j, vP S j → ∃ fs, w2 (P j) = some (ob 3 fs, 16) := fun j hj => by
      obtain ⟨fd, ts, c1, -⟩ := hB.2.2.2.2.2.2.2.1 j hj
      exact ⟨_, hF3 _ _ _ c1 (by omega)⟩
    have hpli : p ≠ LQ i := fun z => by rw [← z, hpn] at hio; cases hio
    have hplx : p ≠ li := fun z => by rw [← z, hpn] at hxo; cases hxo
    have hix : LQ i ≠ li := fun z => by rw [z, hxo] at hio; cases hio
    refine Z.astore_n (i := 3) ok dX1_product_35 rfl (by decide) (by first | exact isRf.r _ | exact isRf.n | exact isRf.v _ | assumption) ?_
    refine Z.aload_n ok dX1_product_36 rfl (by first | exact isRf.r _ | exact isRf.n | exact isRf.v _ | assumption) ?_
    refine Z.get (ci := 2) (C := RX3) (T := TX3) (N := 6) ok hqi2 rfl in_X3 0 (by decide) q1021 (Or.inl rfl) (by rfl) dX1_product_37 ?_
    refine Z.aload_n ok dX1_product_40 rfl (by first | exact isRf.r _ | exact isRf.n | exact isRf.v _ | assumption) ?_
    refine Z.callF (kc' := 1) (ks' := (10+2*X.length)) (ci := 6) (q := (RJ2, TJ2, 3)) (C := RJ2) ok (alistAdd_ct (ci := 3) (cv := 3) (v := p) hLi2 (by decide) (by rw [prL_len]; omega) rfl (q1648) (fun y hy => by obtain ⟨k, hk⟩ := List.mem_iff_getElem?.mp hy; obtain ⟨k1, rfl⟩ := prL_get hk; obtain ⟨fs, hz⟩ := hpe _ (vP_of hi k1 hn3); exact ⟨fs, _, hz⟩) (fun hy => by obtain ⟨k, hk⟩ := List.mem_iff_getElem?.mp hy; obtain ⟨k1, k2⟩ := prL_get hk; obtain ⟨fs, hz⟩ := hpe _ (vP_of hi k1 hn3); rw [← k2, hio2] at hz; cases hz) hp2 hpli (by omega) rfl (q1648)) hio2 rfl rfl q1045 ⟨q1047, q1046, q1051, q1049, q146⟩ q1050 (Or.inl q1048) q19 q1052 nkF_List_add rfl (by decide) (by first | exact Nat.le_of_ble_eq_true rfl | simp [Value.category, cat_rf]) (by omega) (by rw [prL_len]; omega) dX1_product_41 rfl ZX.no (fun v w3 hr => ?_)
    obtain ⟨rfl, hLi3, hF4⟩ := hr
    have hp3 := hF4 _ _ _ hp2 hpli (by omega)
    have ha3 := hF4 _ _ _ ha2 (fun z => by rw [z, hio2] at ha2; cases ha2) (by omega)
    have hqi3 := hF4 _ _ _ hqi2 (fun z => by rw [z, hio2] at hqi2; cases hqi2) (by omega)
    have hxo3 := hF4 _ _ _ hxo2 (Ne.symm hix) (by omega)
    have hLx3 : isL g w3 li 13 (X.map P) := hLx2.kept (fun b y t hb hc => hF4 b y t hb (fun z => by
      rcases hc with c | c
      · exact hix (z.symm.trans c)
      · rw [z, hio2] at hb
        cases hb
        omega) (by
      rcases hc with c | c
      · rw [c, hxo2] at hb
        cases hb
        omega
      · omega))
    have hpe3 : ∀ j, vP S j → ∃ fs, w3 (P j) = some (ob 3 fs, 16) := fun j hj => by
      obtain ⟨fs, hz⟩ := hpe j hj
      exact ⟨fs, hF4 _ _ _ hz (fun z => by rw [z, hio2] at hz; cases hz) (by omega)⟩
    have hXm := hB.2.2.2.2.2.2.2.2.2.2.2.2.1
    refine Z.pop ok dX1_product_46 (by first | rfl | exact cat_rf _) ?_
    refine Z.aload_n ok dX1_product_47 rfl (by first | exact isRf.r _ | exact isRf.n | exact isRf.v _ | assumption) ?_
    refine Z.get (ci := 0) (C := RX1) (T := TX1) (N := 5) ok ha3 rfl in_X1 3 (by decide) q125 (Or.inl rfl) (by rfl) dX1_product_48 ?_
    refine Z.aload_n ok dX1_product_51 rfl (by first | exact isRf.r _ | exact isRf.n | exact isRf.v _ | assumption) ?_
    refine Z.callF (kc' := 0) (ks' := 0) (ci := 6) (q := (RJ2, TJ2, 3)) (C := RJ2) ok (alistAdd_ct (ci := 3) (cv := 3) (v := p) hLx3 (by decide) (by rw [List.length_map]; omega) rfl (q1648) (fun y hy => by obtain ⟨j, hj, rfl⟩ := List.mem_map.mp hy; obtain ⟨fs, hz⟩ := hpe3 _ ((hXm j).mp hj); exact ⟨fs, _, hz⟩) (fun hy => by obtain ⟨j, hj, hj2⟩ := List.mem_map.mp hy; obtain ⟨fs, hz⟩ := hpe3 _ ((hXm j).mp hj); rw [hj2, hxo3] at hz; cases hz) hp3 hplx (by omega) rfl (q1648)) hxo3 rfl rfl q1045 ⟨q1047, q1046, q1051, q1049, q146⟩ q1050 (Or.inl q1048) q19 q1052 nkF_List_add rfl (by decide) (by first | exact Nat.le_of_ble_eq_true rfl | simp [Value.category, cat_rf]) (by omega) (by rw [List.length_map]; omega) dX1_product_52 rfl ZX.no (fun v w4 hr => ?_)
    obtain ⟨rfl, hLx4, hF5⟩ := hr
    have hp4 := hF5 _ _ _ hp3 hplx (by omega)
    have hqi4 := hF5 _ _ _ hqi3 (fun z => by rw [z, hxo3] at hqi3; cases hqi3) (by omega)
    have hLi4 : isL g w4 (LQ i) 15 (prL S P i ++ [p]) := by
      obtain ⟨f3, hio3⟩ := hLi3.obj
      exact hLi3.kept (fun b y t hb hc => hF5 b y t hb (fun z => by
        rcases hc with c | c
        · exact hix (c.symm.trans z)
        · rw [z, hxo3] at hb
          cases hb
          omega) (by
        rcases hc with c | c
        · rw [c, hio3] at hb
          cases hb
          omega
        · omega))
    obtain ⟨f4, hio4⟩ := hLi4.obj
    refine Z.pop ok dX1_product_57 (by first | rfl | exact cat_rf _) ?_
    refine Z.aload_n ok dX1_product_58 rfl (by first | exact isRf.r _ | exact isRf.n | exact isRf.v _ | assumption) ?_
    refine Z.get (ci := 2) (C := RX3) (T := TX3) (N := 6) ok hqi4 rfl in_X3 0 (by decide) q1021 (Or.inl rfl) (by rfl) dX1_product_59 ?_
    refine Z.callF (ci := 6) (q := (RJ2, TJ2, 3)) (C := RJ2) ok (alistSize_ct hLi4) hio4 rfl rfl q143 ⟨q145, q144, q150, q148, q146⟩ q149 (Or.inl q147) q19 q151 nkF_List_size rfl (by decide) (by first | exact Nat.le_of_ble_eq_true rfl | simp [Value.category, cat_rf]) (Nat.le_refl _) (Nat.le_refl _) dX1_product_62 rfl ZX.no (fun v w5 hr => ?_)
    obtain ⟨rfl, rfl⟩ := hr
    rw [List.length_append, prL_len]
    refine Z.iret ok hQ (by first | rfl | exact bI_nar _) dX1_product_67 ?_
    have hFN : FrN w w4 [LQ i, li, l] := fun b y t hb h1 h2 => by
      simp only [List.mem_cons, List.not_mem_nil, or_false, not_or] at h1
      exact hF5 b y t (hF4 b y t (hF3 b y t hb (h2 l (by simp))) h1.1 (h2 _ (by simp))) h1.2.1 (h2 _ (by simp))
    have hL4 : isL g w4 l 17 [] := by
      obtain ⟨fl, hlo⟩ := hL2.obj
      have nl1 : l ≠ LQ i := fun z => by rw [z, hio] at hwl; cases hwl
      have nl2 : l ≠ li := fun z => by rw [z, hxo] at hwl; cases hwl
      refine hL2.kept (fun b y t hb hc => ?_)
      have hb3 := hF4 b y t hb (fun z => by
        rcases hc with c | c
        · exact nl1 (c.symm.trans z)
        · rw [z, hio2] at hb
          cases hb
          omega) (by
        rcases hc with c | c
        · rw [c, hlo] at hb
          cases hb
          omega
        · omega)
      exact hF5 b y t hb3 (fun z => by
        rcases hc with c | c
        · exact nl2 (c.symm.trans z)
        · rw [z, hxo3] at hb3
          cases hb3
          omega) (by
        rcases hc with c | c
        · rw [c, hlo] at hb
          cases hb
          omega
        · omega)
    obtain ⟨r1, r2⟩ := hB.product h5 h3 hi (hZ _ nv) hFN hwl hpn hLi4 hLx4 hp4 hL4
    refine ⟨by rw [hk, if_neg (by omega)], by rw [e, h5, nI_1]; rfl, _, _, _, by rw [e]; exact r1, (hX.keep (hFN.I r2)).setP (fun n a b j _ hj => updN_n (fun z : j = 3 * i + np S i => nv (by rw [← z]; exact hV n a b j hj))), hFN.O r2⟩
  refine Z.astore_n (i := 2) ok dX1_product_5 rfl (by decide) (by first | exact isRf.r _ | exact isRf.n | exact isRf.v _ | assumption) ?_
  refine Z.aload_n ok dX1_product_6 rfl (by first | exact isRf.r _ | exact isRf.n | exact isRf.v _ | assumption) ?_
  refine Z.get (ci := 2) (C := RX3) (T := TX3) (N := 6) ok hqi rfl in_X3 0 (by decide) q1021 (Or.inl rfl) (by rfl) dX1_product_7 ?_
  refine Z.callF (ci := 6) (q := (RJ2, TJ2, 3)) (C := RJ2) ok (alistSize_ct hLi) hio rfl rfl q143 ⟨q145, q144, q150, q148, q146⟩ q149 (Or.inl q147) q19 q151 nkF_List_size rfl (by decide) (by first | exact Nat.le_of_ble_eq_true rfl | simp [Value.category, cat_rf]) (Nat.le_refl _) (Nat.le_refl _) dX1_product_10 rfl ZX.no (fun v w1 hr => ?_)
  obtain ⟨rfl, rfl⟩ := hr
  rw [prL_len]
  refine Z.iconst_3 ok dX1_product_15 ?_
  by_cases hc0 : np S i < 3
  · refine Z.icmp_ge (tgt := 23) ok dX1_product_16 (by decide) (fun hc => absurd hc (show ¬ nI 3 ≤ nI (np S i) from nI_ge hc0 (by decide))) (fun _ => ?_)
    refine Z.iconst_1 ok dX1_product_19 ?_
    refine Z.goto (tgt := 24) ok dX1_product_20 (by decide) ?_
    exact key true (decide_eq_true hc0).symm
  · refine Z.icmp_ge (tgt := 23) ok dX1_product_16 (by decide) (fun _ => ?_) (fun hc => absurd (show nI 3 ≤ nI (np S i) from nI_le (by omega) (by omega)) hc)
    refine Z.iconst_0 ok dX1_product_23 ?_
    exact key false (decide_eq_false hc0).symm
end PRODUCTW
