/-! ===== java.util.ArrayList: add ===== -/
section ALIST2
variable {g : Gx} {w : Wd} {l tl : Nat} {xs : List Nat}
theorem copyOf2_ct {a t n0 n1 : Nat} {f : Nat → Option Nat} (tq : Nat) (hw : w a = some (eO g n0 f, t)) (h01 : n0 ≤ n1) (hn : n1 < 1000000) (hel : ∀ i : Nat, i < n0 → ∀ y : Nat, f i = some y → isOb w y) (htq : tq ≠ 0) : Ct g yJ11_copyOf_2 cJ11_copyOf_2 2 (some (.array (.object "java/lang/Object"))) 2 1 n1 [.ref a, .int (nI n1)] w (fun v w' => ∃ q, v = some (.ref q) ∧ w q = none ∧ w' = wset w q (eO g n1 (fun j => if j < n0 then f j else none)) tq) noX := by
  refine Ct.of RJ11 "copyOf" ⟨rfl, rfl⟩ (by decide +kernel) (by simp [Value.category] <;> exact cat_rf _) (Nat.le_of_ble_eq_true rfl) (fun x ok hQ hN => ?_)
  show Z g x 2 0 [some (.ref a), some (.int (nI n1))] [] w 1 n1
  refine Z.aload_n ok dJ11_copyOf_2_0 rfl (by first | exact isRf.r _ | exact isRf.n | exact isRf.v _ | assumption) ?_
  refine Z.iload_n ok dJ11_copyOf_2_1 rfl ?_
  refine Z.aload_n ok dJ11_copyOf_2_2 rfl (by first | exact isRf.r _ | exact isRf.n | exact isRf.v _ | assumption) ?_
  refine Z.getC ok hw q1069 q1661 q1660 q729 q749 (fun U h => h.ss.2.2.2.2.2.2.2.2.2.2.1) (by decide) (by exact Nat.le_of_ble_eq_true rfl) dJ11_copyOf_2_3 ?_
  refine Z.callS (kc' := 0) (ks' := 0) ok (copyOf3_ct tq hw h01 hn hel htq) q1070 q1071 q30 q1072 nk_J11_copyOf_3 rfl (by decide) (by first | exact Nat.le_of_ble_eq_true rfl | simp [Value.category, cat_rf]) (by omega) (by omega) dJ11_copyOf_2_6 rfl ZX.no (fun v w1 hp => ?_)
  obtain ⟨q, rfl, hq, rfl⟩ := hp
  refine Z.aret ok hQ (by first | exact Or.inl ⟨_, rfl⟩ | exact Or.inr ⟨_, rfl⟩) (by first | exact isRf.r _ | exact isRf.n | exact isRf.v _ | assumption) dJ11_copyOf_2_9 ?_
  exact ⟨q, rfl, hq, rfl⟩
theorem grow2_ct {n d cap : Nat} {f : Nat → Option Nat} {mo : Int32} (hw : w l = some (ob 6 [.int mo, .ref d, .int (nI n)], tl)) (ht : tl ≠ 0) (hd : (cap = 0 ∧ d = gS g 0) ∨ (0 < cap ∧ w d = some (eO g cap f, 1000 + l))) (hcap : n = cap) (hn : n < 100000) (hel : 0 < n → ∀ i : Nat, i < n → ∀ y : Nat, f i = some y → isOb w y) : Ct g yJ2_grow_2 cJ2_grow_2 4 (some (.array (.object "java/lang/Object"))) 3 1 (10+2*n) [.ref l, .int (nI (n + 1))] w (fun v w' => ∃ d' cap' f', v = some (.ref d') ∧ w' l = some (ob 6 [.int mo, .ref d', .int (nI n)], tl) ∧ n < cap' ∧ cap' < 1000000 ∧ w' d' = some (eO g cap' f', 1000 + l) ∧ (∀ j, j < n → f' j = f j) ∧ FrL l w w') noX := by
  refine Ct.of RJ2 "grow" ⟨rfl, rfl⟩ (by decide +kernel) (by simp [Value.category] <;> exact cat_rf _) (Nat.le_of_ble_eq_true rfl) (fun x ok hQ hN => ?_)
  show Z g x 4 0 [some (.ref l), some (.int (nI (n + 1))), none, none] [] w 1 (10+2*n)
  subst hcap
  rcases hd with ⟨h0, rfl⟩ | ⟨h0, hd⟩
  · subst h0
    refine Z.aload_n ok dJ2_grow_2_0 rfl (by first | exact isRf.r _ | exact isRf.n | exact isRf.v _ | assumption) ?_
    refine Z.get (ci := 6) (C := RJ2) (T := TJ2) (N := 3) ok (by first | assumption | exact ws_s | exact hT _ (by assumption) | (rw [ws_n (by assumption)]; assumption)) rfl in_J2 1 (by decide) q77 (Or.inl rfl) (by rfl) dJ2_grow_2_1 ?_
    refine Z.tlen ok (fun U h => h.ss.2.2.2.2.2.2.2.1) dJ2_grow_2_4 ?_
    refine Z.istore_n (i := 2) ok dJ2_grow_2_5 rfl (by decide) ?_
    refine Z.iload_n ok dJ2_grow_2_6 rfl ?_
    refine Z.if_gt (tgt := 20) ok dJ2_grow_2_7 (by decide) (fun hc => absurd hc (by decide)) (fun _ => ?_)
    refine Z.aload_n ok dJ2_grow_2_10 rfl (by first | exact isRf.r _ | exact isRf.n | exact isRf.v _ | assumption) ?_
    refine Z.get (ci := 6) (C := RJ2) (T := TJ2) (N := 3) ok (by first | assumption | exact ws_s | exact hT _ (by assumption) | (rw [ws_n (by assumption)]; assumption)) rfl in_J2 1 (by decide) q77 (Or.inl rfl) (by rfl) dJ2_grow_2_11 ?_
    refine Z.gets ok (fun U h => h.ss.2.2.2.2.1) q75 (Or.inl rfl) dJ2_grow_2_14 ?_
    show Z g x 4 _ _ [va_rf (some (gS g 0)), va_rf (some (gS g 0))] w _ _
    refine Z.acmp_eq (tgt := 45) ok dJ2_grow_2_17 (by decide) (fun _ => ?_) (fun hc => absurd rfl hc)
    refine Z.aload_n ok dJ2_grow_2_45 rfl (by first | exact isRf.r _ | exact isRf.n | exact isRf.v _ | assumption) ?_
    refine Z.bipush (v := 10) ok dJ2_grow_2_46 (by decide) ?_
    refine Z.iload_n ok dJ2_grow_2_48 rfl ?_
    refine Z.mmax ok q1076 q315 q29 q316 (by decide) (by first | exact Nat.le_of_ble_eq_true rfl | simp [Value.category, cat_rf]) dJ2_grow_2_49 ?_
    refine Z.newO (N := 10) (kc' := 0) (ks' := 0) (1000 + l) ok q1077 q1074 (by decide) (by decide) (by decide) (by omega) (by omega) dJ2_grow_2_52 (fun q hq hqA => ?_)
    have hne : l ≠ q := fun e => by rw [e, hq] at hw; cases hw
    have hw1 : wset w q (eO g 10 (fun _ => none)) (1000 + l) l = some (ob 6 [.int mo, .ref (gS g 0), .int (nI 0)], tl) := (ws_n hne).trans hw
    refine Z.dup_x1 ok dJ2_grow_2_55 (by first | rfl | exact cat_rf _) (by first | rfl | exact cat_rf _) ?_
    refine Z.put (ci := 6) (C := RJ2) (T := TJ2) (N := 3) (ty0 := tyJ2) ok (by first | assumption | exact ws_s | exact hT _ (by assumption) | (rw [ws_n (by assumption)]; assumption)) (by first | decide | assumption) rfl in_J2 tyJ2_ok nmJ2 1 (by decide) q77 (Or.inl rfl) rfl (okV_a (by first | exact isRf.r _ | exact isRf.n | exact isRf.v _ | assumption)) (by rfl) dJ2_grow_2_56 ?_
    refine Z.aret ok hQ (by first | exact Or.inl ⟨_, rfl⟩ | exact Or.inr ⟨_, rfl⟩) (by first | exact isRf.r _ | exact isRf.n | exact isRf.v _ | assumption) dJ2_grow_2_59 ?_
    exact ⟨q, 10, fun _ => none, rfl, ws_s, by omega, by omega, (ws_n (Ne.symm hne)).trans ws_s, fun j hj => absurd hj (Nat.not_lt_zero _), (FrL.set (Or.inr (Or.inl hq))).tr (FrL.set (Or.inl rfl))⟩
  · refine Z.aload_n ok dJ2_grow_2_0 rfl (by first | exact isRf.r _ | exact isRf.n | exact isRf.v _ | assumption) ?_
    refine Z.get (ci := 6) (C := RJ2) (T := TJ2) (N := 3) ok (by first | assumption | exact ws_s | exact hT _ (by assumption) | (rw [ws_n (by assumption)]; assumption)) rfl in_J2 1 (by decide) q77 (Or.inl rfl) (by rfl) dJ2_grow_2_1 ?_
    refine Z.alen (k0 := 4) ok hd rfl dJ2_grow_2_4 ?_
    refine Z.istore_n (i := 2) ok dJ2_grow_2_5 rfl (by decide) ?_
    refine Z.iload_n ok dJ2_grow_2_6 rfl ?_
    refine Z.if_gt (tgt := 20) ok dJ2_grow_2_7 (by decide) (fun _ => ?_) (fun hc => absurd (by rw [show (0 : Int32) = nI 0 from rfl]; exact nI_lt h0 (by omega)) hc)
    refine Z.iload_n ok dJ2_grow_2_20 rfl ?_
    refine Z.iload_n ok dJ2_grow_2_21 rfl ?_
    refine Z.iload_n ok dJ2_grow_2_22 rfl ?_
    refine Z.isub ok dJ2_grow_2_23 ?_
    refine Z.iload_n ok dJ2_grow_2_24 rfl ?_
    refine Z.iconst_1 ok dJ2_grow_2_25 ?_
    refine Z.ishr (v := nI (n / 2)) ok dJ2_grow_2_26 (pk_shrN (by omega) _ 1 (by decide)) ?_
    rw [show nI (n + 1) - nI n = nI 1 by rw [pk_sub (by omega)]; congr 1; omega]
    refine Z.callS (kc' := 1) (ks' := (10+2*n)) ok (newLength_ct (n := n) (by omega)) q1065 q312 q28 q313 nk_J9_newLength rfl (by decide) (by first | exact Nat.le_of_ble_eq_true rfl | simp [Value.category, cat_rf]) (by omega) (by omega) dJ2_grow_2_27 rfl ZX.no (fun v w1 hp => ?_)
    obtain ⟨rfl, rfl⟩ := hp
    have hmx : 1 ≤ (if 1 < n / 2 then n / 2 else 1) ∧ (if 1 < n / 2 then n / 2 else 1) ≤ n := by split <;> omega
    generalize (if 1 < n / 2 then n / 2 else 1) = k at hmx ⊢
    refine Z.istore_n (i := 3) ok dJ2_grow_2_30 rfl (by decide) ?_
    refine Z.aload_n ok dJ2_grow_2_31 rfl (by first | exact isRf.r _ | exact isRf.n | exact isRf.v _ | assumption) ?_
    refine Z.aload_n ok dJ2_grow_2_32 rfl (by first | exact isRf.r _ | exact isRf.n | exact isRf.v _ | assumption) ?_
    refine Z.get (ci := 6) (C := RJ2) (T := TJ2) (N := 3) ok (by first | assumption | exact ws_s | exact hT _ (by assumption) | (rw [ws_n (by assumption)]; assumption)) rfl in_J2 1 (by decide) q77 (Or.inl rfl) (by rfl) dJ2_grow_2_33 ?_
    refine Z.iload_n ok dJ2_grow_2_36 rfl ?_
    refine Z.callS (kc' := 0) (ks' := 0) ok (copyOf2_ct (n1 := n + k) (1000 + l) hd (by omega) (by omega) (hel h0) (by omega)) q1066 q1067 q30 q1068 nk_J11_copyOf_2 rfl (by decide) (by first | exact Nat.le_of_ble_eq_true rfl | simp [Value.category, cat_rf]) (by omega) (by omega) dJ2_grow_2_37 rfl ZX.no (fun v w1 hp => ?_)
    obtain ⟨q, rfl, hq, rfl⟩ := hp
    have hne : l ≠ q := fun e => by rw [e, hq] at hw; cases hw
    have hw1 : wset w q (eO g (n + k) (fun j => if j < n then f j else none)) (1000 + l) l = some (ob 6 [.int mo, .ref d, .int (nI n)], tl) := (ws_n hne).trans hw
    refine Z.dup_x1 ok dJ2_grow_2_40 (by first | rfl | exact cat_rf _) (by first | rfl | exact cat_rf _) ?_
    refine Z.put (ci := 6) (C := RJ2) (T := TJ2) (N := 3) (ty0 := tyJ2) ok (by first | assumption | exact ws_s | exact hT _ (by assumption) | (rw [ws_n (by assumption)]; assumption)) (by first | decide | assumption) rfl in_J2 tyJ2_ok nmJ2 1 (by decide) q77 (Or.inl rfl) rfl (okV_a (by first | exact isRf.r _ | exact isRf.n | exact isRf.v _ | assumption)) (by rfl) dJ2_grow_2_41 ?_
    refine Z.aret ok hQ (by first | exact Or.inl ⟨_, rfl⟩ | exact Or.inr ⟨_, rfl⟩) (by first | exact isRf.r _ | exact isRf.n | exact isRf.v _ | assumption) dJ2_grow_2_44 ?_
    exact ⟨q, n + k, _, rfl, ws_s, by omega, by omega, (ws_n (Ne.symm hne)).trans ws_s, fun j hj => if_pos hj, (FrL.set (Or.inr (Or.inl hq))).tr (FrL.set (Or.inl rfl))⟩
theorem grow_ct {n d cap : Nat} {f : Nat → Option Nat} {mo : Int32} (hw : w l = some (ob 6 [.int mo, .ref d, .int (nI n)], tl)) (ht : tl ≠ 0) (hd : (cap = 0 ∧ d = gS g 0) ∨ (0 < cap ∧ w d = some (eO g cap f, 1000 + l))) (hcap : n = cap) (hn : n < 100000) (hel : 0 < n → ∀ i : Nat, i < n → ∀ y : Nat, f i = some y → isOb w y) : Ct g yJ2_grow cJ2_grow 1 (some (.array (.object "java/lang/Object"))) 4 1 (10+2*n) [.ref l] w (fun v w' => ∃ d' cap' f', v = some (.ref d') ∧ w' l = some (ob 6 [.int mo, .ref d', .int (nI n)], tl) ∧ n < cap' ∧ cap' < 1000000 ∧ w' d' = some (eO g cap' f', 1000 + l) ∧ (∀ j, j < n → f' j = f j) ∧ FrL l w w') noX := by
  refine Ct.of RJ2 "grow" ⟨rfl, rfl⟩ (by decide +kernel) (by simp [Value.category] <;> exact cat_rf _) (Nat.le_of_ble_eq_true rfl) (fun x ok hQ hN => ?_)
  show Z g x 1 0 [some (.ref l)] [] w 1 (10+2*n)
  refine Z.aload_n ok dJ2_grow_0 rfl (by first | exact isRf.r _ | exact isRf.n | exact isRf.v _ | assumption) ?_
  refine Z.aload_n ok dJ2_grow_1 rfl (by first | exact isRf.r _ | exact isRf.n | exact isRf.v _ | assumption) ?_
  refine Z.get (ci := 6) (C := RJ2) (T := TJ2) (N := 3) ok (by first | assumption | exact ws_s | exact hT _ (by assumption) | (rw [ws_n (by assumption)]; assumption)) rfl in_J2 2 (by decide) q78 (Or.inl rfl) (by rfl) dJ2_grow_2 ?_
  refine Z.iconst_1 ok dJ2_grow_5 ?_
  refine Z.iadd ok dJ2_grow_6 ?_
  rw [nI_1]
  refine Z.callV (kc' := 0) (ks' := 0) (ci := 6) (q := (RJ2, TJ2, 3)) (C := RJ2) ok (grow2_ct hw ht hd hcap hn hel) (by first | assumption | exact ws_s | exact hT _ (by assumption) | (rw [ws_n (by assumption)]; assumption)) rfl rfl q1061 q1063 (Or.inl qs4) q19 q1064 nk_J2_grow_2 rfl (by decide) (by first | exact Nat.le_of_ble_eq_true rfl | simp [Value.category, cat_rf]) (by omega) (by omega) dJ2_grow_7 rfl ZX.no (fun v w1 hp => ?_)
  obtain ⟨d', cap', f', rfl, h⟩ := hp
  refine Z.aret ok hQ (by first | exact Or.inl ⟨_, rfl⟩ | exact Or.inr ⟨_, rfl⟩) (by first | exact isRf.r _ | exact isRf.n | exact isRf.v _ | assumption) dJ2_grow_10 ?_
  exact ⟨d', cap', f', rfl, h⟩
theorem add2_ct {d cap cv v tv : Nat} {vs : List Value} {f : Nat → Option Nat} {mo : Int32} {rv : vw_C} (hw : w l = some (ob 6 [.int mo, .ref d, .int (nI xs.length)], tl)) (ht : tl ≠ 0) (hlen : xs.length ≤ cap) (hd : (cap = 0 ∧ d = gS g 0) ∨ (0 < cap ∧ w d = some (eO g cap f, 1000 + l))) (hf : ∀ j : Nat, j < xs.length → f j = xs[j]?) (hn : xs.length < 100000) (hcap2 : cap < 1000000) (hel : ∀ y : Nat, y ∈ xs → isOb w y) (hv : w v = some (ob cv vs, tv)) (hvl : v ≠ l) (hvt : tv ≠ 1000 + l) (hcv : clA[cv]? = some rv) (hcav : Cond.castable rv.1 "java/lang/Object" ∈ lw_tbl) : Ct g yJ2_add_2 cJ2_add_2 4 none 5 1 (10+2*xs.length) [.ref l, .ref v, .ref d, .int (nI xs.length)] w (fun r w' => r = none ∧ isL g w' l tl (xs ++ [v]) ∧ FrL l w w') noX := by
  refine Ct.of RJ2 "add" ⟨rfl, rfl⟩ (by decide +kernel) (by simp [Value.category] <;> exact cat_rf _) (Nat.le_of_ble_eq_true rfl) (fun x ok hQ hN => ?_)
  show Z g x 4 0 [some (.ref l), some (.ref v), some (.ref d), some (.int (nI xs.length))] [] w 1 (10+2*xs.length)
  have key : ∀ (w' : Wd) (d' cap' : Nat) (f' : Nat → Option Nat), w' l = some (ob 6 [.int mo, .ref d', .int (nI xs.length)], tl) → xs.length < cap' → cap' < 1000000 → w' d' = some (eO g cap' f', 1000 + l) → (∀ j, j < xs.length → f' j = xs[j]?) → w' v = some (ob cv vs, tv) → FrL l w w' → Z g x 4 11 [some (.ref l), some (.ref v), some (.ref d'), some (.int (nI xs.length))] [] w' 0 0 := by
    intro w' d' cap' f' a1 a2 a3 a4 a5 a6 aF
    have hdl : d' ≠ l := fun e => by rw [e, a1] at a4; cases a4
    refine Z.aload_n ok dJ2_add_2_11 rfl (by first | exact isRf.r _ | exact isRf.n | exact isRf.v _ | assumption) ?_
    refine Z.iload_n ok dJ2_add_2_12 rfl ?_
    refine Z.aload_n ok dJ2_add_2_13 rfl (by first | exact isRf.r _ | exact isRf.n | exact isRf.v _ | assumption) ?_
    refine Z.oast ok a4 (by omega) a6 hcv (Or.inr hcav) (vp_in_nI a2 (by omega)) dJ2_add_2_14 ?_
    rw [nI_clamp (by omega)]
    have b1 : wset w' d' (eO g cap' (va_up f' xs.length (some v))) (1000 + l) l = some (ob 6 [.int mo, .ref d', .int (nI xs.length)], tl) := (ws_n (Ne.symm hdl)).trans a1
    refine Z.aload_n ok dJ2_add_2_15 rfl (by first | exact isRf.r _ | exact isRf.n | exact isRf.v _ | assumption) ?_
    refine Z.iload_n ok dJ2_add_2_16 rfl ?_
    refine Z.iconst_1 ok dJ2_add_2_17 ?_
    refine Z.iadd ok dJ2_add_2_18 ?_
    refine Z.put (ci := 6) (C := RJ2) (T := TJ2) (N := 3) (ty0 := tyJ2) ok (by first | assumption | exact ws_s | exact hT _ (by assumption) | (rw [ws_n (by assumption)]; assumption)) (by first | decide | assumption) rfl in_J2 tyJ2_ok nmJ2 2 (by decide) q78 (Or.inl rfl) rfl (okV_i _) (by rfl) dJ2_add_2_19 ?_
    refine Z.vret ok hQ rfl dJ2_add_2_22 ?_
    refine ⟨rfl, ⟨mo, d', cap', va_up f' xs.length (some v), ?_, ?_, a3, Or.inr ⟨by omega, (ws_n hdl).trans ws_s⟩, ?_⟩, aF.tr ((FrL.set (Or.inr (Or.inr ⟨_, a4⟩))).tr (FrL.set (Or.inl rfl)))⟩
    · rw [ws_s]
      congr 3
      simp [nI_1]
    · simp; omega
    · intro j hj
      simp at hj
      unfold va_up
      by_cases h : j = xs.length
      · subst h
        simp
      · rw [if_neg h, a5 j (by omega), List.getElem?_append_left (by omega)]
  refine Z.iload_n ok dJ2_add_2_0 rfl ?_
  refine Z.aload_n ok dJ2_add_2_1 rfl (by first | exact isRf.r _ | exact isRf.n | exact isRf.v _ | assumption) ?_
  by_cases hfull : xs.length = cap
  · have hlv : ∀ y, y = nI cap → Z g x 4 (0 + 1 + 1 + 1) [some (.ref l), some (.ref v), some (.ref d), some (.int (nI xs.length))] [.int y, .int (nI xs.length)] w 1 (10+2*xs.length) := by
      intro y hy
      subst hy
      refine Z.icmp_ne (tgt := 11) ok dJ2_add_2_3 (by decide) (fun hc => absurd (by rw [hfull]) hc) (fun _ => ?_)
      refine Z.aload_n ok dJ2_add_2_6 rfl (by first | exact isRf.r _ | exact isRf.n | exact isRf.v _ | assumption) ?_
      refine Z.callV (kc' := 0) (ks' := 0) (ci := 6) (q := (RJ2, TJ2, 3)) (C := RJ2) ok (grow_ct hw ht hd hfull hn (fun _ i hi y hy => hel y (List.mem_of_getElem? ((hf i hi).symm.trans hy)))) (by first | assumption | exact ws_s | exact hT _ (by assumption) | (rw [ws_n (by assumption)]; assumption)) rfl rfl q1057 q1059 (Or.inl qs3) q19 q1060 nk_J2_grow rfl (by decide) (by first | exact Nat.le_of_ble_eq_true rfl | simp [Value.category, cat_rf]) (by omega) (by omega) dJ2_add_2_7 rfl ZX.no (fun v w1 hp => ?_)
      obtain ⟨d', cap', f', rfl, b1, b2, b3, b4, b5, bF⟩ := hp
      have hv1 : w1 v = some (ob cv vs, tv) := bF _ _ _ hv hvl hvt
      refine Z.astore_n (i := 2) ok dJ2_add_2_10 rfl (by decide) (by first | exact isRf.r _ | exact isRf.n | exact isRf.v _ | assumption) ?_
      exact key w1 d' cap' f' b1 b2 b3 b4 (fun j hj => (b5 j hj).trans (hf j hj)) hv1 bF
    rcases hd with ⟨h0, rfl⟩ | ⟨h0, hd⟩
    · refine Z.tlen ok (fun U h => h.ss.2.2.2.2.2.2.2.1) dJ2_add_2_2 ?_
      exact hlv _ (by rw [h0])
    · refine Z.alen (k0 := 4) ok hd rfl dJ2_add_2_2 ?_
      exact hlv _ rfl
  · rcases hd with ⟨h0, rfl⟩ | ⟨h0, hd⟩
    · omega
    · refine Z.alen (k0 := 4) ok hd rfl dJ2_add_2_2 ?_
      refine Z.icmp_ne (tgt := 11) ok dJ2_add_2_3 (by decide) (fun _ => ?_) (fun hc => absurd hc (fun e => hfull ((nI_eq (by omega) (by omega)).mp e)))
      exact Z.room (by omega) (by omega) (key w d cap f hw (by omega) hcap2 hd hf hv FrL.rf)
theorem alistAddG_ct {cv v tv : Nat} {vs : List Value} {rv : vw_C} (h : isL g w l tl xs) (ht : tl ≠ 0) (hn : xs.length < 100000) (hel : ∀ y : Nat, y ∈ xs → isOb w y) (hel2 : l ∉ xs) (hv : w v = some (ob cv vs, tv)) (hvl : v ≠ l) (hvt : tv ≠ 1000 + l) (hcv : clA[cv]? = some rv) (hcav : Cond.castable rv.1 "java/lang/Object" ∈ lw_tbl) : Ct g yJ2_add cJ2_add 2 (some .boolean) 6 1 (10+2*xs.length) [.ref l, .ref v] w (fun r w' => r = rI 1 ∧ isL g w' l tl (xs ++ [v]) ∧ FrL l w w') noX := by
  refine Ct.of RJ2 "add" ⟨rfl, rfl⟩ (by decide +kernel) (by simp [Value.category] <;> exact cat_rf _) (Nat.le_of_ble_eq_true rfl) (fun x ok hQ hN => ?_)
  show Z g x 2 0 [some (.ref l), some (.ref v)] [] w 1 (10+2*xs.length)
  obtain ⟨mo, d, cap, f, h1, h2, hcap, h3, h4⟩ := h
  refine Z.aload_n ok dJ2_add_0 rfl (by first | exact isRf.r _ | exact isRf.n | exact isRf.v _ | assumption) ?_
  refine Z.dup ok dJ2_add_1 (by first | rfl | exact cat_rf _) ?_
  refine Z.get (ci := 6) (C := RJ2) (T := TJ2) (N := 3) ok (by first | assumption | exact ws_s | exact hT _ (by assumption) | (rw [ws_n (by assumption)]; assumption)) rfl in_J2 0 (by decide) q80 (Or.inr q81) (by rfl) dJ2_add_2 ?_
  refine Z.iconst_1 ok dJ2_add_5 ?_
  refine Z.iadd ok dJ2_add_6 ?_
  refine Z.put (ci := 6) (C := RJ2) (T := TJ2) (N := 3) (ty0 := tyJ2) ok (by first | assumption | exact ws_s | exact hT _ (by assumption) | (rw [ws_n (by assumption)]; assumption)) (by first | decide | assumption) rfl in_J2 tyJ2_ok nmJ2 0 (by decide) q80 (Or.inr q81) rfl (okV_i _) (by rfl) dJ2_add_7 ?_
  have hw1 : wset w l (ob 6 [.int (mo + 1), .ref d, .int (nI xs.length)]) tl l = some (ob 6 [.int (mo + 1), .ref d, .int (nI xs.length)], tl) := ws_s
  have hdl : ∀ e t, w d = some (eO g e t, 1000 + l) → d ≠ l := fun e t hd q => by rw [q, h1] at hd; cases hd
  have hF : FrL l w (wset w l (ob 6 [.int (mo + 1), .ref d, .int (nI xs.length)]) tl) := FrL.set (Or.inl rfl)
  generalize hw' : wset w l (ob 6 [.int (mo + 1), .ref d, .int (nI xs.length)]) tl = w' at hw1 hF
  refine Z.cw (w' := w') hw'.symm ?_
  refine Z.aload_n ok dJ2_add_10 rfl (by first | exact isRf.r _ | exact isRf.n | exact isRf.v _ | assumption) ?_
  refine Z.aload_n ok dJ2_add_11 rfl (by first | exact isRf.r _ | exact isRf.n | exact isRf.v _ | assumption) ?_
  refine Z.aload_n ok dJ2_add_12 rfl (by first | exact isRf.r _ | exact isRf.n | exact isRf.v _ | assumption) ?_
  refine Z.get (ci := 6) (C := RJ2) (T := TJ2) (N := 3) ok (by first | assumption | exact ws_s | exact hT _ (by assumption) | (rw [ws_n (by assumption)]; assumption)) rfl in_J2 1 (by decide) q77 (Or.inl rfl) (by rfl) dJ2_add_13 ?_
  refine Z.aload_n ok dJ2_add_16 rfl (by first | exact isRf.r _ | exact isRf.n | exact isRf.v _ | assumption) ?_
  refine Z.get (ci := 6) (C := RJ2) (T := TJ2) (N := 3) ok (by first | assumption | exact ws_s | exact hT _ (by assumption) | (rw [ws_n (by assumption)]; assumption)) rfl in_J2 2 (by decide) q78 (Or.inl rfl) (by rfl) dJ2_add_17 ?_
  have h3' : (cap = 0 ∧ d = gS g 0) ∨ (0 < cap ∧ w' d = some (eO g cap f, 1000 + l)) := by
    rcases h3 with h3 | ⟨h3, h5⟩
    · exact Or.inl h3
    · refine Or.inr ⟨h3, ?_⟩
      rw [← hw', ws_n (hdl _ _ h5)]
      exact h5
  have hv' : w' v = some (ob cv vs, tv) := hF _ _ _ hv hvl hvt
  refine Z.callV (kc' := 0) (ks' := 0) (ci := 6) (q := (RJ2, TJ2, 3)) (C := RJ2) ok (add2_ct (xs := xs) (rv := rv) hw1 ht h2 h3' h4 hn hcap (fun y hy => by obtain ⟨ci, r, fs, t, hc, hca, e⟩ := hel y hy; exact ⟨ci, r, fs, t, hc, hca, by rw [← hw', ws_n (fun q => hel2 (by rw [← q]; exact hy))]; exact e⟩) hv' hvl hvt hcv hcav) (by first | assumption | exact ws_s | exact hT _ (by assumption) | (rw [ws_n (by assumption)]; assumption)) rfl rfl q1053 q1055 (Or.inl qs2) q19 q1056 nk_J2_add_2 rfl (by decide) (by first | exact Nat.le_of_ble_eq_true rfl | simp [Value.category, cat_rf]) (by omega) (by omega) dJ2_add_20 rfl ZX.no (fun v w2 hp => ?_)
  obtain ⟨rfl, hL, hF2⟩ := hp
  refine Z.iconst_1 ok dJ2_add_23 ?_
  refine Z.iret ok hQ (by first | rfl | exact bI_nar _) dJ2_add_24 ?_
  exact ⟨rfl, hL, hF.tr hF2⟩
theorem alistAdd_ct {ci cv v tv : Nat} {vs : List Value} {r rv : vw_C} (h : isL g w l tl xs) (ht : tl ≠ 0) (hn : xs.length < 100000) (hc : clA[ci]? = some r) (hca : Cond.castable r.1 "java/lang/Object" ∈ lw_tbl) (hel : ∀ y : Nat, y ∈ xs → ∃ fs t, w y = some (ob ci fs, t)) (hel2 : l ∉ xs) (hv : w v = some (ob cv vs, tv)) (hvl : v ≠ l) (hvt : tv ≠ 1000 + l) (hcv : clA[cv]? = some rv) (hcav : Cond.castable rv.1 "java/lang/Object" ∈ lw_tbl) : Ct g yJ2_add cJ2_add 2 (some .boolean) 6 1 (10+2*xs.length) [.ref l, .ref v] w (fun r w' => r = rI 1 ∧ isL g w' l tl (xs ++ [v]) ∧ FrL l w w') noX :=
  alistAddG_ct h ht hn (fun y hy => by
    obtain ⟨fs, t, e⟩ := hel y hy
    exact ⟨ci, r, fs, t, hc, hca, e⟩) hel2 hv hvl hvt hcv hcav
end ALIST2
