/-! ===== STRINGS: append of small numbers, toString, the index's key ===== -/
section STR2
variable {g : Gx} {w : Wd}
def dg (v : Nat) : List Nat := if v < 10 then [48 + v] else [48 + v / 10, 48 + v % 10]
theorem dg_len (v : Nat) : (dg v).length = if v < 10 then 1 else 2 := by
  unfold dg
  split <;> rfl
theorem neg10 : ∀ v : Nat, v < 100 → ((-nI v ≤ (-10 : Int32)) ↔ ¬ v < 10) := by decide +kernel
theorem neg100 : ∀ v : Nat, v < 100 → ¬ (-nI v ≤ (-100 : Int32)) := by decide +kernel
theorem neg100' : ∀ v : Nat, v < 100 → (-nI v > (-100 : Int32)) := by decide +kernel
theorem neg9 : ∀ v : Nat, v < 100 → ((-nI v ≥ (-9 : Int32)) ↔ v < 10) := by decide +kernel
theorem negneg : ∀ v : Nat, v < 100 → -(-nI v) = nI v := by decide +kernel
theorem narB : ∀ v : Nat, v < 128 → vp_nar .byte (nI v) = nI v := by decide +kernel
theorem m1o {p : Nat} (h : 0 < p) : nI p + Int32.ofInt (-1) = nI (p - 1) := sb_m1 h
theorem strSize_ct {v : Nat} (hv : v < 100) : Ct g yJ23_stringSize cJ23_stringSize 4 (some .int) 1 0 0 [.int (nI v)] w (PW (rI (nI (dg v).length)) w) noX := by
  refine Ct.of RJ23 "stringSize" ⟨rfl, rfl⟩ (by decide +kernel) (by simp [Value.category]) (Nat.le_of_ble_eq_true rfl) (fun x ok hQ hN => ?_)
  show Z g x 4 0 [some (.int (nI v)), none, none, none] [] w 0 0
  refine Z.iconst_1 ok dJ23_stringSize_0 ?_
  refine Z.istore_n (i := 1) ok dJ23_stringSize_1 rfl (by decide) ?_
  refine Z.iload_n ok dJ23_stringSize_2 rfl ?_
  refine Z.if_lt (tgt := 11) ok dJ23_stringSize_3 (by decide) (fun hc => absurd hc (nI_pos (by omega))) (fun _ => ?_)
  refine Z.iconst_0 ok dJ23_stringSize_6 ?_
  refine Z.istore_n (i := 1) ok dJ23_stringSize_7 rfl (by decide) ?_
  refine Z.iload_n ok dJ23_stringSize_8 rfl ?_
  refine Z.ineg ok dJ23_stringSize_9 ?_
  refine Z.istore_n (i := 0) ok dJ23_stringSize_10 rfl (by decide) ?_
  refine Z.bipush (v := (-10)) ok dJ23_stringSize_11 (by decide) ?_
  refine Z.istore_n (i := 2) ok dJ23_stringSize_13 rfl (by decide) ?_
  refine Z.iconst_1 ok dJ23_stringSize_14 ?_
  refine Z.istore_n (i := 3) ok dJ23_stringSize_15 rfl (by decide) ?_
  refine Z.iload_n ok dJ23_stringSize_16 rfl ?_
  refine Z.bipush (v := 10) ok dJ23_stringSize_17 (by decide) ?_
  refine Z.icmp_ge (tgt := 42) ok dJ23_stringSize_19 (by decide) (fun hc => absurd hc (by decide)) (fun _ => ?_)
  refine Z.iload_n ok dJ23_stringSize_22 rfl ?_
  refine Z.iload_n ok dJ23_stringSize_23 rfl ?_
  by_cases h : v < 10
  · refine Z.icmp_le (tgt := 31) ok dJ23_stringSize_24 (by decide) (fun hc => absurd hc (fun c => (neg10 v hv).mp c h)) (fun _ => ?_)
    refine Z.iload_n ok dJ23_stringSize_27 rfl ?_
    refine Z.iload_n ok dJ23_stringSize_28 rfl ?_
    refine Z.iadd ok dJ23_stringSize_29 ?_
    refine Z.iret ok hQ rfl dJ23_stringSize_30 ?_
    exact ⟨by rw [dg_len, if_pos h]; rfl, rfl⟩
  · refine Z.icmp_le (tgt := 31) ok dJ23_stringSize_24 (by decide) (fun _ => ?_) (fun hc => absurd ((neg10 v hv).mpr h) hc)
    refine Z.bipush (v := 10) ok dJ23_stringSize_31 (by decide) ?_
    refine Z.iload_n ok dJ23_stringSize_33 rfl ?_
    refine Z.imul ok dJ23_stringSize_34 ?_
    refine Z.istore_n (i := 2) ok dJ23_stringSize_35 rfl (by decide) ?_
    refine Z.iinc ok dJ23_stringSize_36 rfl rfl ?_
    refine Z.goto (tgt := 16) ok dJ23_stringSize_39 (by decide) ?_
    refine Z.iload_n ok dJ23_stringSize_16 rfl ?_
    refine Z.bipush (v := 10) ok dJ23_stringSize_17 (by decide) ?_
    refine Z.icmp_ge (tgt := 42) ok dJ23_stringSize_19 (by decide) (fun hc => absurd hc (by decide)) (fun _ => ?_)
    refine Z.iload_n ok dJ23_stringSize_22 rfl ?_
    refine Z.iload_n ok dJ23_stringSize_23 rfl ?_
    refine Z.icmp_le (tgt := 31) ok dJ23_stringSize_24 (by decide) (fun hc => absurd hc (neg100 v hv)) (fun _ => ?_)
    refine Z.iload_n ok dJ23_stringSize_27 rfl ?_
    refine Z.iload_n ok dJ23_stringSize_28 rfl ?_
    refine Z.iadd ok dJ23_stringSize_29 ?_
    refine Z.iret ok hQ rfl dJ23_stringSize_30 ?_
    exact ⟨by rw [dg_len, if_neg h]; rfl, rfl⟩
theorem getChars_ct {v e a : Nat} {f : Nat → Int32} (hv : v < 100) (he : e ≤ 16) (hd : (dg v).length ≤ e) (h2 : w a = some (eB g 16 f, 8)) : Ct g yJ23_getChars cJ23_getChars 7 (some .int) 1 0 0 [.int (nI v), .int (nI e), .ref a] w (fun r w' => ∃ q f', r = rI q ∧ w' a = some (eB g 16 f', 8) ∧ (∀ b, b ≠ a → w' b = w b) ∧ (∀ j, j < e - (dg v).length → f' j = f j) ∧ ∀ j, j < (dg v).length → f' (e - (dg v).length + j) = nI ((dg v).getD j 0)) noX := by
  refine Ct.of RJ23 "getChars" ⟨rfl, rfl⟩ (by decide +kernel) (by simp [Value.category]) (Nat.le_of_ble_eq_true rfl) (fun x ok hQ hN => ?_)
  show Z g x 7 0 [some (.int (nI v)), some (.int (nI e)), some (.ref a), none, none, none, none] [] w 0 0
  have hv0 : v < 100 ∧ v < 2 ^ 31 := ⟨hv, by omega⟩
  refine Z.iload_n ok dJ23_getChars_0 rfl ?_
  refine Z.istore ok dJ23_getChars_1 (by decide) ?_
  refine Z.iload_n ok dJ23_getChars_3 rfl ?_
  refine Z.if_ge (tgt := 11) ok dJ23_getChars_4 (by decide) (fun _ => ?_) (fun hc => absurd (nI_pos' (by omega)) hc)
  refine Z.iconst_0 ok dJ23_getChars_11 ?_
  refine Z.istore ok dJ23_getChars_12 (by decide) ?_
  refine Z.iload ok dJ23_getChars_14 rfl ?_
  refine Z.if_ne (tgt := 22) ok dJ23_getChars_16 (by decide) (fun hc => absurd (by rfl) hc) (fun _ => ?_)
  refine Z.iload_n ok dJ23_getChars_19 rfl ?_
  refine Z.ineg ok dJ23_getChars_20 ?_
  refine Z.istore_n (i := 0) ok dJ23_getChars_21 rfl (by decide) ?_
  refine Z.iload_n ok dJ23_getChars_22 rfl ?_
  refine Z.bipush (v := (-100)) ok dJ23_getChars_23 (by decide) ?_
  refine Z.icmp_gt (tgt := 72) ok dJ23_getChars_25 (by decide) (fun _ => ?_) (fun hc => absurd (neg100' v hv) hc)
  refine Z.aload_n ok dJ23_getChars_72 rfl (by first | exact isRf.r _ | exact isRf.n | exact isRf.v _ | assumption) ?_
  refine Z.iinc ok dJ23_getChars_73 rfl rfl ?_
  refine Z.iload ok dJ23_getChars_76 rfl ?_
  refine Z.gets ok (fun U h => h.ss.2.2.2.2.2.2.1) q425 (Or.inl rfl) dJ23_getChars_78 ?_
  refine Z.iload_n ok dJ23_getChars_81 rfl ?_
  refine Z.ineg ok dJ23_getChars_82 ?_
  rw [negneg v hv]
  refine Z.tbald ok (fun U h => h.ss.2.2.2.2.2.2.2.2.2.1) hv (by decide) dJ23_getChars_83 ?_
  have h0 : 1 ≤ (dg v).length := by rw [dg_len]; split <;> omega
  rw [m1o (by omega)]
  refine Z.bast ok h2 (by decide) (vp_in_nI (by omega) (by omega)) dJ23_getChars_84 ?_
  rw [nI_clamp (by omega)]
  refine Z.iload_n ok dJ23_getChars_85 rfl ?_
  refine Z.bipush (v := (-9)) ok dJ23_getChars_86 (by decide) ?_
  by_cases h : v < 10
  · refine Z.icmp_ge (tgt := 104) ok dJ23_getChars_88 (by decide) (fun _ => ?_) (fun hc => absurd ((neg9 v hv).mpr h) hc)
    refine Z.iload ok dJ23_getChars_104 rfl ?_
    refine Z.if_eq (tgt := 118) ok dJ23_getChars_106 (by decide) (fun _ => ?_) (fun hc => absurd rfl hc)
    refine Z.iload ok dJ23_getChars_118 rfl ?_
    refine Z.iret ok hQ rfl dJ23_getChars_120 ?_
    refine ⟨_, _, rfl, ws_s, fun b hb => ws_n hb, ?_⟩
    have e0 : dg v = [48 + v] := if_pos h
    rw [e0]
    refine ⟨fun j hj => pk_un (by simp at hj; omega), fun j hj => ?_⟩
    simp at hj
    subst hj
    rw [show e - ([48 + v] : List Nat).length + 0 = e - 1 from rfl, pk_us]
    rw [narB _ (by omega), Nat.mod_eq_of_lt h]
    rfl
  · refine Z.icmp_ge (tgt := 104) ok dJ23_getChars_88 (by decide) (fun hc => absurd hc (fun c => h ((neg9 v hv).mp c))) (fun _ => ?_)
    refine Z.aload_n ok dJ23_getChars_91 rfl (by first | exact isRf.r _ | exact isRf.n | exact isRf.v _ | assumption) ?_
    refine Z.iinc ok dJ23_getChars_92 rfl rfl ?_
    refine Z.iload ok dJ23_getChars_95 rfl ?_
    refine Z.gets ok (fun U h => h.ss.2.2.2.2.2.1) q427 (Or.inl rfl) dJ23_getChars_97 ?_
    refine Z.iload_n ok dJ23_getChars_100 rfl ?_
    refine Z.ineg ok dJ23_getChars_101 ?_
    rw [negneg v hv]
    refine Z.tbald ok (fun U h => h.ss.2.2.2.2.2.2.2.2.1) hv (by decide) dJ23_getChars_102 ?_
    have h1 : (dg v).length = 2 := by rw [dg_len, if_neg h]
    rw [m1o (by omega)]
    refine Z.bast ok ws_s (by decide) (vp_in_nI (by omega) (by omega)) dJ23_getChars_103 ?_
    rw [nI_clamp (by omega)]
    refine Z.iload ok dJ23_getChars_104 rfl ?_
    refine Z.if_eq (tgt := 118) ok dJ23_getChars_106 (by decide) (fun _ => ?_) (fun hc => absurd rfl hc)
    refine Z.iload ok dJ23_getChars_118 rfl ?_
    refine Z.iret ok hQ rfl dJ23_getChars_120 ?_
    refine ⟨_, _, rfl, ws_s, fun b hb => (ws_n hb).trans (ws_n hb), ?_⟩
    have e0 : dg v = [48 + v / 10, 48 + v % 10] := if_neg h
    rw [e0]
    refine ⟨fun j hj => ?_, fun j hj => ?_⟩
    · simp at hj
      rw [pk_un (by omega), pk_un (by omega)]
    · simp at hj
      rcases j with _ | _ | j
      · rw [show e - ([48 + v / 10, 48 + v % 10] : List Nat).length + 0 = e - 1 - 1 by simp; omega, pk_us, narB _ (by omega)]
        rfl
      · rw [show e - ([48 + v / 10, 48 + v % 10] : List Nat).length + (0 + 1) = e - 1 by simp; omega, pk_un (by omega), pk_us, narB _ (by omega)]
        rfl
      · omega
theorem sbNum0_ct {s v : Nat} {xs : List Nat} (h : isSB g w s xs) (hv : v < 100) (hx : xs.length + 2 ≤ 16) : Ct g yJ19_append_2 cJ19_append_2 4 (some (.object "java/lang/AbstractStringBuilder")) 2 0 0 [.ref s, .int (nI v)] w (fun r w' => r = some (.ref s) ∧ isSB g w' s (xs ++ dg v) ∧ FrS w w') noX := by
  refine Ct.of RJ19 "append" ⟨rfl, rfl⟩ (by decide +kernel) (by simp [Value.category]) (Nat.le_of_ble_eq_true rfl) (fun x ok hQ hN => ?_)
  show Z g x 4 0 [some (.ref s), some (.int (nI v)), none, none] [] w 0 0
  have h0 := h
  obtain ⟨a, f, h1, h2, h3⟩ := h
  have hl : (dg v).length ≤ 2 := by rw [dg_len]; split <;> omega
  refine Z.aload_n ok dJ19_append_2_0 rfl (by first | exact isRf.r _ | exact isRf.n | exact isRf.v _ | assumption) ?_
  refine Z.get (ci := 10) (C := RJ20) (T := TJ20) (N := 4) ok (by first | assumption | exact ws_s | (rw [ws_n (by assumption)]; assumption)) rfl in_J20 3 (by decide) q280 (Or.inl rfl) (by rfl) dJ19_append_2_1 ?_
  refine Z.istore_n (i := 2) ok dJ19_append_2_4 rfl (by decide) ?_
  refine Z.iload_n ok dJ19_append_2_5 rfl ?_
  refine Z.iload_n ok dJ19_append_2_6 rfl ?_
  refine Z.callS ok (strSize_ct hv) q419 q420 q48 q421 nk_J23_stringSize rfl (by decide) (by first | exact Nat.le_of_ble_eq_true rfl | simp [Value.category, cat_rf]) (Nat.le_refl _) (Nat.le_refl _) dJ19_append_2_7 rfl ZX.no (fun v w1 hp => ?_)
  obtain ⟨rfl, rfl⟩ := hp
  refine Z.iadd ok dJ19_append_2_10 ?_
  refine Z.istore_n (i := 3) ok dJ19_append_2_11 rfl (by decide) ?_
  refine Z.aload_n ok dJ19_append_2_12 rfl (by first | exact isRf.r _ | exact isRf.n | exact isRf.v _ | assumption) ?_
  refine Z.iload_n ok dJ19_append_2_13 rfl ?_
  rw [nI_add]
  refine Z.callV (ci := 10) (q := (RJ20, TJ20, 4)) (C := RJ20) ok (sbEnsure_ct h0 (n := xs.length + (dg v).length) (by omega)) (by first | assumption | exact ws_s | (rw [ws_n (by assumption)]; assumption)) rfl rfl q303 q305 (Or.inr lw_ex_0) q43 q306 nk_J19_ensureCapacityInternal rfl (by decide) (by first | exact Nat.le_of_ble_eq_true rfl | simp [Value.category, cat_rf]) (Nat.le_refl _) (Nat.le_refl _) dJ19_append_2_14 rfl ZX.no (fun v w1 hp => ?_)
  obtain ⟨rfl, rfl⟩ := hp
  refine Z.aload_n ok dJ19_append_2_17 rfl (by first | exact isRf.r _ | exact isRf.n | exact isRf.v _ | assumption) ?_
  refine Z.callV (ci := 10) (q := (RJ20, TJ20, 4)) (C := RJ20) ok (sbLatin_ct h0) (by first | assumption | exact ws_s | (rw [ws_n (by assumption)]; assumption)) rfl rfl q338 q339 (Or.inl q341) q43 q342 nk_J19_isLatin1 rfl (by decide) (by first | exact Nat.le_of_ble_eq_true rfl | simp [Value.category, cat_rf]) (Nat.le_refl _) (Nat.le_refl _) dJ19_append_2_18 rfl ZX.no (fun v w1 hp => ?_)
  obtain ⟨rfl, rfl⟩ := hp
  refine Z.if_eq (tgt := 37) ok dJ19_append_2_21 (by decide) (fun hc => absurd hc (by decide)) (fun _ => ?_)
  refine Z.iload_n ok dJ19_append_2_24 rfl ?_
  refine Z.iload_n ok dJ19_append_2_25 rfl ?_
  refine Z.aload_n ok dJ19_append_2_26 rfl (by first | exact isRf.r _ | exact isRf.n | exact isRf.v _ | assumption) ?_
  refine Z.get (ci := 10) (C := RJ20) (T := TJ20) (N := 4) ok (by first | assumption | exact ws_s | (rw [ws_n (by assumption)]; assumption)) rfl in_J20 0 (by decide) q277 (Or.inl rfl) (by rfl) dJ19_append_2_27 ?_
  refine Z.callS ok (getChars_ct (e := xs.length + (dg v).length) hv (by omega) (by omega) h2) q422 q423 q48 q424 nk_J23_getChars rfl (by decide) (by first | exact Nat.le_of_ble_eq_true rfl | simp [Value.category, cat_rf]) (Nat.le_refl _) (Nat.le_refl _) dJ19_append_2_30 rfl ZX.no (fun v w1 hp => ?_)
  obtain ⟨q, f', rfl, b1, b2, b3, b4⟩ := hp
  have hne : s ≠ a := fun e => by rw [← e, h1] at h2; cases h2
  have hF : FrS w w1 := by
    intro b e t hb h7 h8
    by_cases hab : b = a
    · subst hab
      rw [h2] at hb
      cases hb
      contradiction
    · rw [b2 b hab]
      exact hb
  have hw1 : w1 s = _ := (b2 s hne).trans h1
  refine Z.pop ok dJ19_append_2_33 (by first | rfl | exact cat_rf _) ?_
  refine Z.goto (tgt := 48) ok dJ19_append_2_34 (by decide) ?_
  refine Z.aload_n ok dJ19_append_2_48 rfl (by first | exact isRf.r _ | exact isRf.n | exact isRf.v _ | assumption) ?_
  refine Z.iload_n ok dJ19_append_2_49 rfl ?_
  refine Z.put (ci := 10) (C := RJ20) (T := TJ20) (N := 4) (ty0 := tyJ20) ok (by first | assumption | exact ws_s | (rw [ws_n (by assumption)]; assumption)) (by first | decide | assumption) rfl in_J20 tyJ20_ok nmJ20 3 (by decide) q280 (Or.inl rfl) rfl (okV_i _) (by rfl) dJ19_append_2_50 ?_
  refine Z.aload_n ok dJ19_append_2_53 rfl (by first | exact isRf.r _ | exact isRf.n | exact isRf.v _ | assumption) ?_
  refine Z.aret ok hQ (by first | exact Or.inl ⟨_, rfl⟩ | exact Or.inr ⟨_, rfl⟩) (by first | exact isRf.r _ | exact isRf.n | exact isRf.v _ | assumption) dJ19_append_2_54 ?_
  refine ⟨rfl, ?_, hF.tr (FrS.set (Or.inr (Or.inl ⟨_, hw1⟩)))⟩
  refine isSB.up (ys := dg v) (n := xs.length + (dg v).length) hw1 b1 (fun j hj => ?_) (fun j hj => ?_) (by simp)
  · rw [b3 j (by omega)]
    exact h3 j hj
  · rw [← b4 j hj]
    congr 1
    omega
theorem sbNum_ct {s v : Nat} {xs : List Nat} (h : isSB g w s xs) (hv : v < 100) (hx : xs.length + 2 ≤ 16) : Ct g yJ20_append_2 cJ20_append_2 2 (some (.object "java/lang/StringBuilder")) 3 0 0 [.ref s, .int (nI v)] w (fun r w' => r = some (.ref s) ∧ isSB g w' s (xs ++ dg v) ∧ FrS w w') noX := by
  refine Ct.of RJ20 "append" ⟨rfl, rfl⟩ (by decide +kernel) (by simp [Value.category]) (Nat.le_of_ble_eq_true rfl) (fun x ok hQ hN => ?_)
  show Z g x 2 0 [some (.ref s), some (.int (nI v))] [] w 0 0
  obtain ⟨a, f, h1, h2, h3⟩ := id h
  refine Z.aload_n ok dJ20_append_2_0 rfl (by first | exact isRf.r _ | exact isRf.n | exact isRf.v _ | assumption) ?_
  refine Z.iload_n ok dJ20_append_2_1 rfl ?_
  refine Z.callSU (ci := 10) (q := (RJ20, TJ20, 4)) ok (sbNum0_ct h hv hx) (by first | assumption | exact ws_s | (rw [ws_n (by assumption)]; assumption)) rfl q416 q1633 q289 q417 q43 q418 (by decide) nk_J19_append_2 rfl (by decide) (by first | exact Nat.le_of_ble_eq_true rfl | simp [Value.category, cat_rf]) (Nat.le_refl _) (Nat.le_refl _) dJ20_append_2_2 rfl ZX.no (fun v w1 hp => ?_)
  obtain ⟨rfl, a1, a2⟩ := hp
  refine Z.pop ok dJ20_append_2_5 (by first | rfl | exact cat_rf _) ?_
  refine Z.aload_n ok dJ20_append_2_6 rfl (by first | exact isRf.r _ | exact isRf.n | exact isRf.v _ | assumption) ?_
  refine Z.aret ok hQ (by first | exact Or.inl ⟨_, rfl⟩ | exact Or.inr ⟨_, rfl⟩) (by first | exact isRf.r _ | exact isRf.n | exact isRf.v _ | assumption) dJ20_append_2_7 ?_
  exact ⟨rfl, a1, a2⟩
/-- a String: its letters; its hash is not known yet, or right -/
def hsI (xs : List Nat) : Int32 := xs.foldl (fun h c => 31 * h + nI c) 0
def isStr (g : Gx) (w : Wd) (a : Nat) (xs : List Nat) : Prop := ∃ v f h, w a = some (ob 11 [.ref v, .int 0, .int h, .int 0], 6) ∧ w v = some (eB g xs.length f, 9) ∧ (∀ j, j < xs.length → f j = nI (xs.getD j 0)) ∧ (h = 0 ∨ h = hsI xs) ∧ ∀ c, c ∈ xs → c < 128
theorem sbValue_ct {s a : Nat} {n : Int32} (h1 : w s = some (ob 10 [.ref a, .int 0, .int 0, .int n], 7)) : Ct g yJ19_getValue cJ19_getValue 1 (some (.array .byte)) 1 0 0 [.ref s] w (PW (some (.ref a)) w) noX := by
  refine Ct.of RJ19 "getValue" ⟨rfl, rfl⟩ (by decide +kernel) (by simp [Value.category]) (Nat.le_of_ble_eq_true rfl) (fun x ok hQ hN => ?_)
  show Z g x 1 0 [some (.ref s)] [] w 0 0
  refine Z.aload_n ok dJ19_getValue_0 rfl (by first | exact isRf.r _ | exact isRf.n | exact isRf.v _ | assumption) ?_
  refine Z.get (ci := 10) (C := RJ20) (T := TJ20) (N := 4) ok (by first | assumption | exact ws_s | (rw [ws_n (by assumption)]; assumption)) rfl in_J20 0 (by decide) q277 (Or.inl rfl) (by rfl) dJ19_getValue_1 ?_
  refine Z.aret ok hQ (by first | exact Or.inl ⟨_, rfl⟩ | exact Or.inr ⟨_, rfl⟩) (by first | exact isRf.r _ | exact isRf.n | exact isRf.v _ | assumption) dJ19_getValue_4 ?_
  exact ⟨rfl, rfl⟩
theorem sbLen0_ct {s a : Nat} {n : Int32} (h1 : w s = some (ob 10 [.ref a, .int 0, .int 0, .int n], 7)) : Ct g yJ19_length cJ19_length 1 (some .int) 1 0 0 [.ref s] w (PW (rI n) w) noX := by
  refine Ct.of RJ19 "length" ⟨rfl, rfl⟩ (by decide +kernel) (by simp [Value.category]) (Nat.le_of_ble_eq_true rfl) (fun x ok hQ hN => ?_)
  show Z g x 1 0 [some (.ref s)] [] w 0 0
  refine Z.aload_n ok dJ19_length_0 rfl (by first | exact isRf.r _ | exact isRf.n | exact isRf.v _ | assumption) ?_
  refine Z.get (ci := 10) (C := RJ20) (T := TJ20) (N := 4) ok (by first | assumption | exact ws_s | (rw [ws_n (by assumption)]; assumption)) rfl in_J20 3 (by decide) q280 (Or.inl rfl) (by rfl) dJ19_length_1 ?_
  refine Z.iret ok hQ rfl dJ19_length_4 ?_
  exact ⟨rfl, rfl⟩
theorem sbLen_ct {s a : Nat} {n : Int32} (h1 : w s = some (ob 10 [.ref a, .int 0, .int 0, .int n], 7)) : Ct g yJ20_length cJ20_length 1 (some .int) 2 0 0 [.ref s] w (PW (rI n) w) noX := by
  refine Ct.of RJ20 "length" ⟨rfl, rfl⟩ (by decide +kernel) (by simp [Value.category]) (Nat.le_of_ble_eq_true rfl) (fun x ok hQ hN => ?_)
  show Z g x 1 0 [some (.ref s)] [] w 0 0
  refine Z.aload_n ok dJ20_length_0 rfl (by first | exact isRf.r _ | exact isRf.n | exact isRf.v _ | assumption) ?_
  refine Z.callSU (ci := 10) (q := (RJ20, TJ20, 4)) ok (sbLen0_ct h1) (by first | assumption | exact ws_s | (rw [ws_n (by assumption)]; assumption)) rfl q463 q459 q289 q458 q43 q464 (by decide) nk_J19_length rfl (by decide) (by first | exact Nat.le_of_ble_eq_true rfl | simp [Value.category, cat_rf]) (Nat.le_refl _) (Nat.le_refl _) dJ20_length_1 rfl ZX.no (fun v w1 hp => ?_)
  obtain ⟨rfl, rfl⟩ := hp
  refine Z.iret ok hQ rfl dJ20_length_4 ?_
  exact ⟨rfl, rfl⟩
theorem chkLen_ct {n : Nat} (hn : n < 2 ^ 31) : Ct g yJ11_checkLength cJ11_checkLength 2 none 1 0 0 [.int 0, .int (nI n)] w (PW none w) noX := by
  refine Ct.of RJ11 "checkLength" ⟨rfl, rfl⟩ (by decide +kernel) (by simp [Value.category]) (Nat.le_of_ble_eq_true rfl) (fun x ok hQ hN => ?_)
  show Z g x 2 0 [some (.int 0), some (.int (nI n))] [] w 0 0
  refine Z.iload_n ok dJ11_checkLength_0 rfl ?_
  refine Z.iload_n ok dJ11_checkLength_1 rfl ?_
  refine Z.icmp_ge (tgt := 37) ok dJ11_checkLength_2 (by decide) (fun _ => ?_) (fun hc => absurd (nI_pos' hn) hc)
  refine Z.vret ok hQ rfl dJ11_checkLength_37 ?_
  exact ⟨rfl, rfl⟩
theorem fitB : ∀ c : Nat, c < 128 → fits .byte (.int (nI c)) = true := by decide +kernel
theorem copyRB_ct {a n t : Nat} {f : Nat → Int32} (h2 : w a = some (eB g 16 f, t)) (hn : n < 16) (hf : ∀ j, j < n → ∃ c, c < 128 ∧ f j = nI c) : Ct g yJ11_copyOfRangeByte cJ11_copyOfRangeByte 5 (some (.array .byte)) 2 1 n [.ref a, .int 0, .int (nI n)] w (fun r w' => ∃ q f', r = some (.ref q) ∧ w q = none ∧ w' = wset w q (eB g n f') 9 ∧ ∀ j, j < n → f' j = f j) noX := by
  refine Ct.of RJ11 "copyOfRangeByte" ⟨rfl, rfl⟩ (by decide +kernel) (by simp [Value.category]) (Nat.le_of_ble_eq_true rfl) (fun x ok hQ hN => ?_)
  show Z g x 5 0 [some (.ref a), some (.int 0), some (.int (nI n)), none, none] [] w 1 n
  refine Z.iload_n ok dJ11_copyOfRangeByte_0 rfl ?_
  refine Z.iload_n ok dJ11_copyOfRangeByte_1 rfl ?_
  refine Z.callS (kc' := 1) (ks' := n) ok (chkLen_ct (n := n) (by omega)) q472 q473 q30 q474 nk_J11_checkLength rfl (by decide) (by first | exact Nat.le_of_ble_eq_true rfl | simp [Value.category, cat_rf]) (by omega) (by omega) dJ11_copyOfRangeByte_2 rfl ZX.no (fun v w1 hp => ?_)
  obtain ⟨rfl, rfl⟩ := hp
  refine Z.iload_n ok dJ11_copyOfRangeByte_5 rfl ?_
  refine Z.iload_n ok dJ11_copyOfRangeByte_6 rfl ?_
  refine Z.isub ok dJ11_copyOfRangeByte_7 ?_
  refine Z.istore_n (i := 3) ok dJ11_copyOfRangeByte_8 rfl (by decide) ?_
  refine Z.iload_n ok dJ11_copyOfRangeByte_9 rfl ?_
  rw [show nI n - 0 = nI n from pk_sub (b := 0) (by omega)]
  refine Z.newB (N := n) (kc' := 0) (ks' := 0) 9 ok q290 (nI_pos (by omega)) (nI_clamp (by omega)) (by show n * 1 ≤ _; omega) (by omega) (by omega) dJ11_copyOfRangeByte_10 (fun q hqn hqA => ?_)
  have hne : a ≠ q := fun e => by rw [e, hqn] at h2; cases h2
  have hw1 : wset w q (eB g n (fun _ => 0)) 9 a = some (eB g 16 f, t) := (ws_n hne).trans h2
  refine Z.astore ok dJ11_copyOfRangeByte_12 (by decide) (by first | exact isRf.r _ | exact isRf.n | exact isRf.v _ | assumption) ?_
  refine Z.aload_n ok dJ11_copyOfRangeByte_14 rfl (by first | exact isRf.r _ | exact isRf.n | exact isRf.v _ | assumption) ?_
  refine Z.iload_n ok dJ11_copyOfRangeByte_15 rfl ?_
  refine Z.aload ok dJ11_copyOfRangeByte_16 rfl (by first | exact isRf.r _ | exact isRf.n | exact isRf.v _ | assumption) ?_
  refine Z.iconst_0 ok dJ11_copyOfRangeByte_18 ?_
  refine Z.aload_n ok dJ11_copyOfRangeByte_19 rfl (by first | exact isRf.r _ | exact isRf.n | exact isRf.v _ | assumption) ?_
  refine Z.alen (k0 := 2) ok hw1 rfl dJ11_copyOfRangeByte_20 ?_
  refine Z.iload_n ok dJ11_copyOfRangeByte_21 rfl ?_
  refine Z.isub ok dJ11_copyOfRangeByte_22 ?_
  refine Z.iload_n ok dJ11_copyOfRangeByte_23 rfl ?_
  refine Z.mmin ok q332 q333 q29 q334 (by decide) (by first | exact Nat.le_of_ble_eq_true rfl | simp [Value.category, cat_rf]) dJ11_copyOfRangeByte_24 ?_
  rw [show nI 16 - 0 = nI 16 from rfl, if_pos (nI_lt hn (by decide) : nI n < nI 16)]
  have c0 : (0 : Int32).toNatClampNeg = 0 := rfl
  refine Z.copyB (n0 := 16) (n1 := n) (f := f) (by decide) (by decide) (nI_pos (by omega)) (by rw [c0, nI_clamp (by omega)]; omega) (by rw [c0, nI_clamp (by omega)]; omega) ok q335 q336 q337 q31 hw1 ws_s (by decide) (by rw [c0, nI_clamp (by omega)]; intro k hk; obtain ⟨c, hc, e⟩ := hf k hk; rw [Nat.zero_add, e]; exact fitB c hc) (by decide) (by exact Nat.le_of_ble_eq_true rfl) dJ11_copyOfRangeByte_27 ?_
  refine Z.aload ok dJ11_copyOfRangeByte_30 rfl (by first | exact isRf.r _ | exact isRf.n | exact isRf.v _ | assumption) ?_
  refine Z.aret ok hQ (by first | exact Or.inl ⟨_, rfl⟩ | exact Or.inr ⟨_, rfl⟩) (by first | exact isRf.r _ | exact isRf.n | exact isRf.v _ | assumption) dJ11_copyOfRangeByte_32 ?_
  refine ⟨q, va_cpy f (fun _ => 0) 0 0 n, rfl, hqn, ?_, fun j hj => by rw [pk_cpy_in (Nat.zero_le _) (by omega)]; congr 1; omega⟩
  rw [c0, nI_clamp (by omega)]
  funext b
  by_cases hb : b = q
  · rw [ws_e hb, ws_e hb]
  · rw [ws_n hb, ws_n hb, ws_n hb]
theorem copyR_ct {a n t : Nat} {f : Nat → Int32} (h2 : w a = some (eB g 16 f, t)) (hn : n < 16) (hf : ∀ j, j < n → ∃ c, c < 128 ∧ f j = nI c) : Ct g yJ11_copyOfRange cJ11_copyOfRange 3 (some (.array .byte)) 3 1 n [.ref a, .int 0, .int (nI n)] w (fun r w' => ∃ q f', r = some (.ref q) ∧ w q = none ∧ w' = wset w q (eB g n f') 9 ∧ ∀ j, j < n → f' j = f j) noX := by
  refine Ct.of RJ11 "copyOfRange" ⟨rfl, rfl⟩ (by decide +kernel) (by simp [Value.category]) (Nat.le_of_ble_eq_true rfl) (fun x ok hQ hN => ?_)
  show Z g x 3 0 [some (.ref a), some (.int 0), some (.int (nI n))] [] w 1 n
  refine Z.iload_n ok dJ11_copyOfRange_0 rfl ?_
  refine Z.if_ne (tgt := 10) ok dJ11_copyOfRange_1 (by decide) (fun hc => absurd rfl hc) (fun _ => ?_)
  refine Z.iload_n ok dJ11_copyOfRange_4 rfl ?_
  refine Z.aload_n ok dJ11_copyOfRange_5 rfl (by first | exact isRf.r _ | exact isRf.n | exact isRf.v _ | assumption) ?_
  refine Z.alen (k0 := 2) ok h2 rfl dJ11_copyOfRange_6 ?_
  refine Z.icmp_eq (tgt := 17) ok dJ11_copyOfRange_7 (by decide) (fun hc => absurd hc (fun c => by have := (nI_eq (by omega) (by decide)).mp (show nI n = nI 16 from c); omega)) (fun _ => ?_)
  refine Z.aload_n ok dJ11_copyOfRange_10 rfl (by first | exact isRf.r _ | exact isRf.n | exact isRf.v _ | assumption) ?_
  refine Z.iload_n ok dJ11_copyOfRange_11 rfl ?_
  refine Z.iload_n ok dJ11_copyOfRange_12 rfl ?_
  refine Z.callS (kc' := 0) (ks' := 0) ok (copyRB_ct h2 hn hf) q469 q470 q30 q471 nk_J11_copyOfRangeByte rfl (by decide) (by first | exact Nat.le_of_ble_eq_true rfl | simp [Value.category, cat_rf]) (by omega) (by omega) dJ11_copyOfRange_13 rfl ZX.no (fun v w1 hp => ?_)
  obtain ⟨q, f', rfl, hp⟩ := hp
  refine Z.aret ok hQ (by first | exact Or.inl ⟨_, rfl⟩ | exact Or.inr ⟨_, rfl⟩) (by first | exact isRf.r _ | exact isRf.n | exact isRf.v _ | assumption) dJ11_copyOfRange_16 ?_
  exact ⟨q, f', rfl, hp⟩
theorem strInit2_ct {s q : Nat} {xs : List Nat} (hq : w q = some (ob 11 [.null, .int 0, .int 0, .int 0], 6)) (h : isSB g w s xs) (hx : xs.length < 16) (hc : ∀ c, c ∈ xs → c < 128) : Ct g yJ14_init_2 cJ14_init_2 5 none 4 1 xs.length [.ref q, .ref s, .null] w (fun r w' => r = none ∧ isStr g w' q xs ∧ (∀ b, b ≠ q → w b ≠ none → w' b = w b)) noX := by
  refine Ct.of RJ14 "<init>" ⟨rfl, rfl⟩ (by decide +kernel) (by simp [Value.category]) (Nat.le_of_ble_eq_true rfl) (fun x ok hQ hN => ?_)
  show Z g x 5 0 [some (.ref q), some (.ref s), some (.null), none, none] [] w 1 xs.length
  have h0 := h
  obtain ⟨a, f, h1, h2, h3⟩ := h
  refine Z.aload_n ok dJ14_init_2_0 rfl (by first | exact isRf.r _ | exact isRf.n | exact isRf.v _ | assumption) ?_
  refine Z.objInit ok q451 q61 q62 (by decide) (by first | exact Nat.le_of_ble_eq_true rfl | simp [Value.category, cat_rf]) dJ14_init_2_1 ?_
  refine Z.aload_n ok dJ14_init_2_4 rfl (by first | exact isRf.r _ | exact isRf.n | exact isRf.v _ | assumption) ?_
  refine Z.callV (kc' := 1) (ks' := xs.length) (ci := 10) (q := (RJ20, TJ20, 4)) (C := RJ20) ok (sbValue_ct h1) (by first | assumption | exact ws_s | (rw [ws_n (by assumption)]; assumption)) rfl rfl q452 q453 (Or.inl q455) q43 q456 nk_J19_getValue rfl (by decide) (by first | exact Nat.le_of_ble_eq_true rfl | simp [Value.category, cat_rf]) (by omega) (by omega) dJ14_init_2_5 rfl ZX.no (fun v w1 hp => ?_)
  obtain ⟨rfl, rfl⟩ := hp
  refine Z.astore_n (i := 3) ok dJ14_init_2_8 rfl (by decide) (by first | exact isRf.r _ | exact isRf.n | exact isRf.v _ | assumption) ?_
  refine Z.aload_n ok dJ14_init_2_9 rfl (by first | exact isRf.r _ | exact isRf.n | exact isRf.v _ | assumption) ?_
  refine Z.callU (kc' := 1) (ks' := xs.length) (ci := 10) (q := (RJ20, TJ20, 4)) (C := RJ20) (owner := "java/lang/AbstractStringBuilder") ok (sbLen_ct h1) (by first | assumption | exact ws_s | (rw [ws_n (by assumption)]; assumption)) rfl rfl q457 q459 q458 q464 q461 (Or.inl q460) q44 q462 nk_J19_length rfl (by decide) (by first | exact Nat.le_of_ble_eq_true rfl | simp [Value.category, cat_rf]) (by omega) (by omega) dJ14_init_2_10 rfl ZX.no (fun v w1 hp => ?_)
  obtain ⟨rfl, rfl⟩ := hp
  refine Z.istore ok dJ14_init_2_13 (by decide) ?_
  refine Z.aload_n ok dJ14_init_2_15 rfl (by first | exact isRf.r _ | exact isRf.n | exact isRf.v _ | assumption) ?_
  refine Z.callV (kc' := 1) (ks' := xs.length) (ci := 10) (q := (RJ20, TJ20, 4)) (C := RJ20) ok (sbLatin_ct h0) (by first | assumption | exact ws_s | (rw [ws_n (by assumption)]; assumption)) rfl rfl q465 q339 (Or.inl q341) q43 q342 nk_J19_isLatin1 rfl (by decide) (by first | exact Nat.le_of_ble_eq_true rfl | simp [Value.category, cat_rf]) (by omega) (by omega) dJ14_init_2_16 rfl ZX.no (fun v w1 hp => ?_)
  obtain ⟨rfl, rfl⟩ := hp
  refine Z.if_eq (tgt := 41) ok dJ14_init_2_19 (by decide) (fun hc => absurd hc (by decide)) (fun _ => ?_)
  have n1 : s ≠ q := fun e => by rw [e, hq] at h1; cases h1
  have n2 : a ≠ q := fun e => by rw [e, hq] at h2; cases h2
  refine Z.aload_n ok dJ14_init_2_22 rfl (by first | exact isRf.r _ | exact isRf.n | exact isRf.v _ | assumption) ?_
  refine Z.iconst_0 ok dJ14_init_2_23 ?_
  refine Z.putF (ci := 11) (C := RJ14) (T := TJ14) (N := 4) (ty0 := tyJ14) ok (by first | assumption | exact ws_s | (rw [ws_n (by assumption)]; assumption)) (by decide) rfl in_J14 tyJ14_ok nmJ14 1 (by decide) q562 (Or.inl rfl) rfl hN rfl (by exact ⟨rfl, rfl⟩) (by rfl) dJ14_init_2_24 ?_
  refine Z.aload_n ok dJ14_init_2_27 rfl (by first | exact isRf.r _ | exact isRf.n | exact isRf.v _ | assumption) ?_
  refine Z.aload_n ok dJ14_init_2_28 rfl (by first | exact isRf.r _ | exact isRf.n | exact isRf.v _ | assumption) ?_
  refine Z.iconst_0 ok dJ14_init_2_29 ?_
  refine Z.iload ok dJ14_init_2_30 rfl ?_
  have h2' := (ws_n (w := w) (e := ob 11 ([.null, .int 0, .int 0, .int 0].set 1 (.int 0))) (t := 6) n2).trans h2
  generalize hW : wset w q (ob 11 ([Value.null, .int 0, .int 0, .int 0].set 1 (.int 0))) 6 = w1 at h2'
  have hq1 : w1 q = some (ob 11 [.null, .int 0, .int 0, .int 0], 6) := by rw [← hW]; exact ws_s
  have ho : ∀ b, b ≠ q → w1 b = w b := fun b hb => by rw [← hW]; exact ws_n hb
  refine Z.callS (kc' := 0) (ks' := 0) ok (copyR_ct (n := xs.length) h2' hx (fun j hj => ⟨_, hc _ (by rw [List.getD_eq_getElem?_getD, List.getElem?_eq_getElem hj]; exact List.getElem_mem hj), h3 j hj⟩)) q466 q467 q30 q468 nk_J11_copyOfRange rfl (by decide) (by first | exact Nat.le_of_ble_eq_true rfl | simp [Value.category, cat_rf]) (by omega) (by omega) dJ14_init_2_32 rfl ZX.no (fun v w2 hp => ?_)
  obtain ⟨v, f', rfl, hv, rfl, hf'⟩ := hp
  have n3 : q ≠ v := fun e => by rw [← e, hq1] at hv; cases hv
  have hq2 : wset w1 v (eB g xs.length f') 9 q = some (ob 11 [.null, .int 0, .int 0, .int 0], 6) := (ws_n n3).trans hq1
  refine Z.putF (ci := 11) (C := RJ14) (T := TJ14) (N := 4) (ty0 := tyJ14) ok (by first | assumption | exact ws_s | (rw [ws_n (by assumption)]; assumption)) (by decide) rfl in_J14 tyJ14_ok nmJ14 0 (by decide) q561 (Or.inl rfl) rfl hN rfl (okV_a (by first | exact isRf.r _ | exact isRf.n | exact isRf.v _ | assumption)) (by rfl) dJ14_init_2_35 ?_
  refine Z.goto (tgt := 97) ok dJ14_init_2_38 (by decide) ?_
  refine Z.vret ok hQ rfl dJ14_init_2_97 ?_
  refine ⟨rfl, ⟨v, f', 0, ws_s, (ws_n (Ne.symm n3)).trans ws_s, fun j hj => (hf' j hj).trans (h3 j hj), Or.inl rfl, hc⟩, fun b hb hn => ?_⟩
  have nv : b ≠ v := fun e => hn (by rw [e, ← ho v (Ne.symm n3)]; exact hv)
  rw [ws_n hb, ws_n nv, ho b hb]
theorem strInit_ct {s q : Nat} {xs : List Nat} (hq : w q = some (ob 11 [.null, .int 0, .int 0, .int 0], 6)) (h : isSB g w s xs) (hx : xs.length < 16) (hc : ∀ c, c ∈ xs → c < 128) : Ct g yJ14_init cJ14_init 2 none 5 1 xs.length [.ref q, .ref s] w (fun r w' => r = none ∧ isStr g w' q xs ∧ (∀ b, b ≠ q → w b ≠ none → w' b = w b)) noX := by
  refine Ct.of RJ14 "<init>" ⟨rfl, rfl⟩ (by decide +kernel) (by simp [Value.category]) (Nat.le_of_ble_eq_true rfl) (fun x ok hQ hN => ?_)
  show Z g x 2 0 [some (.ref q), some (.ref s)] [] w 1 xs.length
  refine Z.aload_n ok dJ14_init_0 rfl (by first | exact isRf.r _ | exact isRf.n | exact isRf.v _ | assumption) ?_
  refine Z.aload_n ok dJ14_init_1 rfl (by first | exact isRf.r _ | exact isRf.n | exact isRf.v _ | assumption) ?_
  refine Z.null ok dJ14_init_2 ?_
  refine Z.callI (kc' := 0) (ks' := 0) ok (strInit2_ct hq h hx hc) q448 q449 q34 q450 rfl nk_J14_init_2 rfl (by decide) (by first | exact Nat.le_of_ble_eq_true rfl | simp [Value.category, cat_rf]) (by omega) (by omega) dJ14_init_3 rfl ZX.no (fun v w1 hp => ?_)
  obtain ⟨rfl, h1, h2⟩ := hp
  refine Z.vret ok hQ rfl dJ14_init_6 ?_
  exact ⟨rfl, h1, h2⟩
theorem sbStr_ct {s : Nat} {xs : List Nat} (h : isSB g w s xs) (hx : xs.length < 16) (hc : ∀ c, c ∈ xs → c < 128) : Ct g yJ20_toString cJ20_toString 1 (some (.object "java/lang/String")) 6 2 (4+xs.length) [.ref s] w (fun r w' => ∃ q, r = some (.ref q) ∧ w q = none ∧ isStr g w' q xs ∧ (∀ b, w b ≠ none → w' b = w b)) noX := by
  refine Ct.of RJ20 "toString" ⟨rfl, rfl⟩ (by decide +kernel) (by simp [Value.category]) (Nat.le_of_ble_eq_true rfl) (fun x ok hQ hN => ?_)
  show Z g x 1 0 [some (.ref s)] [] w 2 (4+xs.length)
  obtain ⟨a, f, h1, h2, h3⟩ := h
  refine Z.room (kc' := 1 + 1) (ks' := xs.length + 4) (by omega) (by omega) ?_
  refine Z.new (ci := 11) (C := RJ14) (T := TJ14) (N := 4) (fs := [.null, .int 0, .int 0, .int 0]) (ty := tyJ14) 6 ok rfl in_J14 tyJ14_ok q443 q444 q34 (def_ok (by decide +kernel)) (Nat.le_refl _) (Nat.le_refl _) dJ20_toString_0 (fun q hqn hqA => ?_)
  refine Z.dup ok dJ20_toString_3 (by first | rfl | exact cat_rf _) ?_
  refine Z.aload_n ok dJ20_toString_4 rfl (by first | exact isRf.r _ | exact isRf.n | exact isRf.v _ | assumption) ?_
  have hF : ∀ b, w b ≠ none → wset w q (ob 11 [.null, .int 0, .int 0, .int 0]) 6 b = w b := fun b hb => ws_n (fun e => hb (by rw [e]; exact hqn))
  have hsb : isSB g (wset w q (ob 11 [.null, .int 0, .int 0, .int 0]) 6) s xs := ⟨a, f, (hF s (by rw [h1]; exact Option.some_ne_none _)).trans h1, (hF a (by rw [h2]; exact Option.some_ne_none _)).trans h2, h3⟩
  refine Z.callI (kc' := 0) (ks' := 0) ok (strInit_ct ws_s hsb hx hc) q445 q446 q34 q447 rfl nk_J14_init rfl (by decide) (by first | exact Nat.le_of_ble_eq_true rfl | simp [Value.category, cat_rf]) (by omega) (by omega) dJ20_toString_5 rfl ZX.no (fun v w2 hp => ?_)
  obtain ⟨rfl, b1, b2⟩ := hp
  refine Z.aret ok hQ (by first | exact Or.inl ⟨_, rfl⟩ | exact Or.inr ⟨_, rfl⟩) (by first | exact isRf.r _ | exact isRf.n | exact isRf.v _ | assumption) dJ20_toString_8 ?_
  refine ⟨q, rfl, hqn, b1, fun b hb => ?_⟩
  have : b ≠ q := fun e => hb (by rw [e]; exact hqn)
  rw [b2 b this (by rw [hF b hb]; exact hb), hF b hb]
/-- the index's key -/
def kchars (n a b : Nat) : List Nat := [110] ++ dg n ++ [58] ++ dg a ++ [43] ++ dg b
theorem dg_lt {v c : Nat} (hv : v < 100) (h : c ∈ dg v) : c < 128 := by
  unfold dg at h
  split at h <;> simp at h <;> omega
theorem kchars_lt {n a b c : Nat} (hn : n < 100) (ha : a < 100) (hb : b < 100) (h : c ∈ kchars n a b) : c < 128 := by
  unfold kchars at h
  simp only [List.mem_append, List.mem_singleton] at h
  rcases h with ((((h | h) | h) | h) | h) | h <;> first | omega | exact dg_lt (by assumption) h
theorem dg_le (v : Nat) : (dg v).length ≤ 2 := by rw [dg_len]; split <;> omega
theorem kchars_len (n a b : Nat) : (kchars n a b).length ≤ 9 := by
  have := dg_le n
  have := dg_le a
  have := dg_le b
  simp [kchars]
  omega
theorem key_ct {n a b : Nat} (hn : n < 100) (ha : a < 100) (hb : b < 100) : Ct g yX1_key cX1_key 3 (some (.object "java/lang/String")) 7 4 40 [.int (nI n), .int (nI a), .int (nI b)] w (fun r w' => ∃ q, r = some (.ref q) ∧ (∀ e t, w q = some (e, t) → t = 7 ∨ t = 8) ∧ isStr g w' q (kchars n a b) ∧ FrS w w') noX := by
  refine Ct.of RX1 "key" ⟨rfl, rfl⟩ (by decide +kernel) (by simp [Value.category]) (Nat.le_of_ble_eq_true rfl) (fun x ok hQ hN => ?_)
  show Z g x 3 0 [some (.int (nI n)), some (.int (nI a)), some (.int (nI b))] [] w 4 40
  refine Z.room (kc' := 3 + 1) (ks' := 36 + 4) (by omega) (by omega) ?_
  refine Z.new (ci := 10) (C := RJ20) (T := TJ20) (N := 4) (fs := [.null, .int 0, .int 0, .int 0]) (ty := tyJ20) 7 ok rfl in_J20 tyJ20_ok q259 q260 q44 (def_ok (by decide +kernel)) (Nat.le_refl _) (Nat.le_refl _) dX1_key_0 (fun s hsn hsA => ?_)
  refine Z.dup ok dX1_key_3 (by first | rfl | exact cat_rf _) ?_
  have hF0 : FrS w (wset w s (ob 10 [.null, .int 0, .int 0, .int 0]) 7) := FrS.set (Or.inl hsn)
  refine Z.callI (kc' := 2) (ks' := 20) ok (sbInit_ct ws_s) q261 q262 q44 q263 rfl nk_J20_init rfl (by decide) (by first | exact Nat.le_of_ble_eq_true rfl | simp [Value.category, cat_rf]) (by omega) (by omega) dX1_key_4 rfl ZX.no (fun v w1 hp => ?_)
  obtain ⟨rfl, hS, hF1⟩ := hp
  have l1 := dg_le n
  have l2 := dg_le a
  have l3 := dg_le b
  refine Z.ldcS ok (fun U h => h.ss.2.2.2.2.2.2.2.2.2.2.2.2.1) dX1_key_7 ?_
  obtain ⟨_, _, hx, _⟩ := id hS
  refine Z.callV (ci := 10) (q := (RJ20, TJ20, 4)) (C := RJ20) ok (sbLit_ct hS (i := 0) (by decide) (by decide)) (by first | assumption | exact ws_s | (rw [ws_n (by assumption)]; assumption)) rfl rfl q292 q293 (Or.inl q294) q44 q295 nk_J20_append rfl (by decide) (by first | exact Nat.le_of_ble_eq_true rfl | simp [Value.category, cat_rf]) (Nat.le_refl _) (Nat.le_refl _) dX1_key_9 rfl ZX.no (fun v w2 hp => ?_)
  obtain ⟨rfl, hS, hF2⟩ := hp
  obtain ⟨_, _, hx, _⟩ := id hS
  refine Z.iload_n ok dX1_key_12 rfl ?_
  refine Z.callV (ci := 10) (q := (RJ20, TJ20, 4)) (C := RJ20) ok (sbNum_ct hS hn (by simp)) (by first | assumption | exact ws_s | (rw [ws_n (by assumption)]; assumption)) rfl rfl q412 q413 (Or.inl q414) q44 q415 nk_J20_append_2 rfl (by decide) (by first | exact Nat.le_of_ble_eq_true rfl | simp [Value.category, cat_rf]) (Nat.le_refl _) (Nat.le_refl _) dX1_key_13 rfl ZX.no (fun v w3 hp => ?_)
  obtain ⟨rfl, hS, hF3⟩ := hp
  obtain ⟨_, _, hx, _⟩ := id hS
  refine Z.ldcS ok (fun U h => h.ss.2.2.2.2.2.2.2.2.2.2.2.2.2.1) dX1_key_16 ?_
  refine Z.callV (ci := 10) (q := (RJ20, TJ20, 4)) (C := RJ20) ok (sbLit_ct hS (i := 1) (by decide) (by simp; omega)) (by first | assumption | exact ws_s | (rw [ws_n (by assumption)]; assumption)) rfl rfl q292 q293 (Or.inl q294) q44 q295 nk_J20_append rfl (by decide) (by first | exact Nat.le_of_ble_eq_true rfl | simp [Value.category, cat_rf]) (Nat.le_refl _) (Nat.le_refl _) dX1_key_18 rfl ZX.no (fun v w4 hp => ?_)
  obtain ⟨rfl, hS, hF4⟩ := hp
  obtain ⟨_, _, hx, _⟩ := id hS
  refine Z.iload_n ok dX1_key_21 rfl ?_
  refine Z.callV (ci := 10) (q := (RJ20, TJ20, 4)) (C := RJ20) ok (sbNum_ct hS ha (by simp; omega)) (by first | assumption | exact ws_s | (rw [ws_n (by assumption)]; assumption)) rfl rfl q412 q413 (Or.inl q414) q44 q415 nk_J20_append_2 rfl (by decide) (by first | exact Nat.le_of_ble_eq_true rfl | simp [Value.category, cat_rf]) (Nat.le_refl _) (Nat.le_refl _) dX1_key_22 rfl ZX.no (fun v w5 hp => ?_)
  obtain ⟨rfl, hS, hF5⟩ := hp
  obtain ⟨_, _, hx, _⟩ := id hS
  refine Z.ldcS ok (fun U h => h.ss.2.2.2.2.2.2.2.2.2.2.2.2.2.2) dX1_key_25 ?_
  refine Z.callV (ci := 10) (q := (RJ20, TJ20, 4)) (C := RJ20) ok (sbLit_ct hS (i := 2) (by decide) (by simp; omega)) (by first | assumption | exact ws_s | (rw [ws_n (by assumption)]; assumption)) rfl rfl q292 q293 (Or.inl q294) q44 q295 nk_J20_append rfl (by decide) (by first | exact Nat.le_of_ble_eq_true rfl | simp [Value.category, cat_rf]) (Nat.le_refl _) (Nat.le_refl _) dX1_key_27 rfl ZX.no (fun v w6 hp => ?_)
  obtain ⟨rfl, hS, hF6⟩ := hp
  obtain ⟨_, _, hx, _⟩ := id hS
  refine Z.iload_n ok dX1_key_30 rfl ?_
  refine Z.callV (ci := 10) (q := (RJ20, TJ20, 4)) (C := RJ20) ok (sbNum_ct hS hb (by simp; omega)) (by first | assumption | exact ws_s | (rw [ws_n (by assumption)]; assumption)) rfl rfl q412 q413 (Or.inl q414) q44 q415 nk_J20_append_2 rfl (by decide) (by first | exact Nat.le_of_ble_eq_true rfl | simp [Value.category, cat_rf]) (Nat.le_refl _) (Nat.le_refl _) dX1_key_31 rfl ZX.no (fun v w7 hp => ?_)
  obtain ⟨rfl, hS, hF7⟩ := hp
  obtain ⟨_, _, hx, _⟩ := id hS
  have hS : isSB g w7 s (kchars n a b) := hS
  have hk := kchars_len n a b
  refine Z.callV (kc' := 0) (ks' := 0) (ci := 10) (q := (RJ20, TJ20, 4)) (C := RJ20) ok (sbStr_ct hS (by omega) (fun c h => kchars_lt hn ha hb h)) (by first | assumption | exact ws_s | (rw [ws_n (by assumption)]; assumption)) rfl rfl q439 q440 (Or.inl q441) q44 q442 nk_J20_toString rfl (by decide) (by first | exact Nat.le_of_ble_eq_true rfl | simp [Value.category, cat_rf]) (by omega) (by omega) dX1_key_34 rfl ZX.no (fun v w8 hp => ?_)
  obtain ⟨q, rfl, hq, hS8, hF8⟩ := hp
  refine Z.aret ok hQ (by first | exact Or.inl ⟨_, rfl⟩ | exact Or.inr ⟨_, rfl⟩) (by first | exact isRf.r _ | exact isRf.n | exact isRf.v _ | assumption) dX1_key_37 ?_
  have hF : FrS w w7 := hF0.tr (hF1.tr (hF2.tr (hF3.tr (hF4.tr (hF5.tr (hF6.tr hF7))))))
  refine ⟨q, rfl, ?_, hS8, fun b e t hb h7 h8 => ?_⟩
  · intro e t hw
    by_cases h7 : t = 7
    · exact Or.inl h7
    · by_cases h8 : t = 8
      · exact Or.inr h8
      · have := hF q e t hw h7 h8
        rw [hq] at this
        cases this
  · rw [hF8 b (by rw [hF b e t hb h7 h8]; exact Option.some_ne_none _)]
    exact hF b e t hb h7 h8
end STR2
