/-! ===== NODES: made, replaced; treeifyBin's loop, untreeify ===== -/
abbrev eNd (h : Nat → Int32) (k v : Nat → Nat) (nx : Nat → Option Nat) (a : Nat) : va_E := ob 8 [.int (h a), .ref (k a), .ref (v a), va_rf (nx a)]
def NW (w : Wd) (S : Nat → Prop) (h : Nat → Int32) (k v : Nat → Nat) (nx : Nat → Option Nat) : Prop := ∀ a, S a → w a = some (eNd h k v nx a, 5)
/-- all that was there is kept -/
def FrA (w w' : Wd) : Prop := ∀ b x, w b = some x → w' b = some x
theorem FrA.rf {w : Wd} : FrA w w := fun _ _ h => h
theorem FrA.tr {w w1 w2 : Wd} (h1 : FrA w w1) (h2 : FrA w1 w2) : FrA w w2 := fun b x h => h2 b x (h1 b x h)
theorem FrA.new {w w' : Wd} {q : Nat} (hq : w q = none) (h : ∀ b, b ≠ q → w' b = w b) : FrA w w' := fun b x hb => by
  rw [h b (fun e => by rw [e, hq] at hb; cases hb)]
  exact hb
section NODES
variable {g : Gx} {w : Wd} {m : Nat}
theorem nodeInit_ct {q kk vv : Nat} {hh : Int32} {nn : Option Nat} (hq : w q = some (ob 8 [.int 0, .null, .null, .null], 5)) : Ct g yJ26_init cJ26_init 5 none 1 0 0 [.ref q, .int hh, .ref kk, .ref vv, va_rf nn] w (fun o w' => o = none ∧ w' q = some (ob 8 [.int hh, .ref kk, .ref vv, va_rf nn], 5) ∧ ∀ b, b ≠ q → w' b = w b) noX := by
  refine Ct.of RJ26 "<init>" ⟨rfl, rfl⟩ (by decide +kernel) (by simp [Value.category] <;> exact cat_rf _) (Nat.le_of_ble_eq_true rfl) (fun x ok hQ hN => ?_)
  show Z g x 5 0 [some (.ref q), some (.int hh), some (.ref kk), some (.ref vv), some (va_rf nn)] [] w 0 0
  refine Z.aload_n ok dJ26_init_0 rfl (by first | exact isRf.r _ | exact isRf.n | exact isRf.v _ | assumption) ?_
  refine Z.objInit ok q1263 q61 q62 (by decide) (by first | exact Nat.le_of_ble_eq_true rfl | simp [Value.category, cat_rf]) dJ26_init_1 ?_
  refine Z.aload_n ok dJ26_init_4 rfl (by first | exact isRf.r _ | exact isRf.n | exact isRf.v _ | assumption) ?_
  refine Z.iload_n ok dJ26_init_5 rfl ?_
  refine Z.putF (ci := 8) (C := RJ26) (T := TJ26) (N := 4) (ty0 := tyJ26) ok (by first | assumption | exact ws_s | exact hT _ (by assumption) | (rw [ws_n (by assumption)]; assumption)) (by decide) rfl in_J26 tyJ26_ok nmJ26 0 (by decide) q1264 (Or.inl rfl) rfl hN rfl (okV_i _) (by rfl) dJ26_init_6 ?_
  refine Z.aload_n ok dJ26_init_9 rfl (by first | exact isRf.r _ | exact isRf.n | exact isRf.v _ | assumption) ?_
  refine Z.aload_n ok dJ26_init_10 rfl (by first | exact isRf.r _ | exact isRf.n | exact isRf.v _ | assumption) ?_
  refine Z.putF (ci := 8) (C := RJ26) (T := TJ26) (N := 4) (ty0 := tyJ26) ok (by first | assumption | exact ws_s | exact hT _ (by assumption) | (rw [ws_n (by assumption)]; assumption)) (by decide) rfl in_J26 tyJ26_ok nmJ26 1 (by decide) q1268 (Or.inl rfl) rfl hN rfl (okV_o (by first | exact isRf.r _ | exact isRf.n | exact isRf.v _ | assumption)) (by rfl) dJ26_init_11 ?_
  refine Z.aload_n ok dJ26_init_14 rfl (by first | exact isRf.r _ | exact isRf.n | exact isRf.v _ | assumption) ?_
  refine Z.aload_n ok dJ26_init_15 rfl (by first | exact isRf.r _ | exact isRf.n | exact isRf.v _ | assumption) ?_
  refine Z.put (ci := 8) (C := RJ26) (T := TJ26) (N := 4) (ty0 := tyJ26) ok (by first | assumption | exact ws_s | exact hT _ (by assumption) | (rw [ws_n (by assumption)]; assumption)) (by first | decide | assumption) rfl in_J26 tyJ26_ok nmJ26 2 (by decide) q1272 (Or.inl rfl) rfl (okV_o (by first | exact isRf.r _ | exact isRf.n | exact isRf.v _ | assumption)) (by rfl) dJ26_init_16 ?_
  refine Z.aload_n ok dJ26_init_19 rfl (by first | exact isRf.r _ | exact isRf.n | exact isRf.v _ | assumption) ?_
  refine Z.aload ok dJ26_init_20 rfl (by first | exact isRf.r _ | exact isRf.n | exact isRf.v _ | assumption) ?_
  refine Z.put (ci := 8) (C := RJ26) (T := TJ26) (N := 4) (ty0 := tyJ26) ok (by first | assumption | exact ws_s | exact hT _ (by assumption) | (rw [ws_n (by assumption)]; assumption)) (by first | decide | assumption) rfl in_J26 tyJ26_ok nmJ26 3 (by decide) q1274 (Or.inl rfl) rfl (okV_o (by first | exact isRf.r _ | exact isRf.n | exact isRf.v _ | assumption)) (by rfl) dJ26_init_22 ?_
  refine Z.vret ok hQ rfl dJ26_init_25 ?_
  exact ⟨rfl, ws_s, fun b hb => (ws_n hb).trans ((ws_n hb).trans ((ws_n hb).trans (ws_n hb)))⟩
theorem tnodeInit0_ct {q kk vv : Nat} {hh : Int32} {nn : Option Nat} (hq : w q = some (ob 9 [.null, .null, .int 0, .null, .null, .null, .null, .null, .null, .null, .int 0], 5)) : Ct g yJ26_init cJ26_init 5 none 1 0 0 [.ref q, .int hh, .ref kk, .ref vv, va_rf nn] w (fun o w' => o = none ∧ w' q = some (ob 9 [.null, .null, .int hh, .ref kk, .ref vv, va_rf nn, .null, .null, .null, .null, .int 0], 5) ∧ ∀ b, b ≠ q → w' b = w b) noX := by
  refine Ct.of RJ26 "<init>" ⟨rfl, rfl⟩ (by decide +kernel) (by simp [Value.category] <;> exact cat_rf _) (Nat.le_of_ble_eq_true rfl) (fun x ok hQ hN => ?_)
  show Z g x 5 0 [some (.ref q), some (.int hh), some (.ref kk), some (.ref vv), some (va_rf nn)] [] w 0 0
  refine Z.aload_n ok dJ26_init_0 rfl (by first | exact isRf.r _ | exact isRf.n | exact isRf.v _ | assumption) ?_
  refine Z.objInit ok q1263 q61 q62 (by decide) (by first | exact Nat.le_of_ble_eq_true rfl | simp [Value.category, cat_rf]) dJ26_init_1 ?_
  refine Z.aload_n ok dJ26_init_4 rfl (by first | exact isRf.r _ | exact isRf.n | exact isRf.v _ | assumption) ?_
  refine Z.iload_n ok dJ26_init_5 rfl ?_
  refine Z.putF (ci := 9) (C := RJ28) (T := TJ28) (N := 11) (ty0 := tyJ28) ok (by first | assumption | exact ws_s | exact hT _ (by assumption) | (rw [ws_n (by assumption)]; assumption)) (by decide) rfl in_J28 tyJ28_ok nmJ28 2 (by decide) q1264 (Or.inl rfl) rfl hN rfl (okV_i _) (by rfl) dJ26_init_6 ?_
  refine Z.aload_n ok dJ26_init_9 rfl (by first | exact isRf.r _ | exact isRf.n | exact isRf.v _ | assumption) ?_
  refine Z.aload_n ok dJ26_init_10 rfl (by first | exact isRf.r _ | exact isRf.n | exact isRf.v _ | assumption) ?_
  refine Z.putF (ci := 9) (C := RJ28) (T := TJ28) (N := 11) (ty0 := tyJ28) ok (by first | assumption | exact ws_s | exact hT _ (by assumption) | (rw [ws_n (by assumption)]; assumption)) (by decide) rfl in_J28 tyJ28_ok nmJ28 3 (by decide) q1268 (Or.inl rfl) rfl hN rfl (okV_o (by first | exact isRf.r _ | exact isRf.n | exact isRf.v _ | assumption)) (by rfl) dJ26_init_11 ?_
  refine Z.aload_n ok dJ26_init_14 rfl (by first | exact isRf.r _ | exact isRf.n | exact isRf.v _ | assumption) ?_
  refine Z.aload_n ok dJ26_init_15 rfl (by first | exact isRf.r _ | exact isRf.n | exact isRf.v _ | assumption) ?_
  refine Z.put (ci := 9) (C := RJ28) (T := TJ28) (N := 11) (ty0 := tyJ28) ok (by first | assumption | exact ws_s | exact hT _ (by assumption) | (rw [ws_n (by assumption)]; assumption)) (by first | decide | assumption) rfl in_J28 tyJ28_ok nmJ28 4 (by decide) q1272 (Or.inl rfl) rfl (okV_o (by first | exact isRf.r _ | exact isRf.n | exact isRf.v _ | assumption)) (by rfl) dJ26_init_16 ?_
  refine Z.aload_n ok dJ26_init_19 rfl (by first | exact isRf.r _ | exact isRf.n | exact isRf.v _ | assumption) ?_
  refine Z.aload ok dJ26_init_20 rfl (by first | exact isRf.r _ | exact isRf.n | exact isRf.v _ | assumption) ?_
  refine Z.put (ci := 9) (C := RJ28) (T := TJ28) (N := 11) (ty0 := tyJ28) ok (by first | assumption | exact ws_s | exact hT _ (by assumption) | (rw [ws_n (by assumption)]; assumption)) (by first | decide | assumption) rfl in_J28 tyJ28_ok nmJ28 5 (by decide) q1274 (Or.inl rfl) rfl (okV_o (by first | exact isRf.r _ | exact isRf.n | exact isRf.v _ | assumption)) (by rfl) dJ26_init_22 ?_
  refine Z.vret ok hQ rfl dJ26_init_25 ?_
  exact ⟨rfl, ws_s, fun b hb => (ws_n hb).trans ((ws_n hb).trans ((ws_n hb).trans (ws_n hb)))⟩
theorem tnodeInit1_ct {q kk vv : Nat} {hh : Int32} {nn : Option Nat} (hq : w q = some (ob 9 [.null, .null, .int 0, .null, .null, .null, .null, .null, .null, .null, .int 0], 5)) : Ct g yJ27_init cJ27_init 5 none 2 0 0 [.ref q, .int hh, .ref kk, .ref vv, va_rf nn] w (fun o w' => o = none ∧ w' q = some (ob 9 [.null, .null, .int hh, .ref kk, .ref vv, va_rf nn, .null, .null, .null, .null, .int 0], 5) ∧ ∀ b, b ≠ q → w' b = w b) noX := by
  refine Ct.of RJ27 "<init>" ⟨rfl, rfl⟩ (by decide +kernel) (by simp [Value.category] <;> exact cat_rf _) (Nat.le_of_ble_eq_true rfl) (fun x ok hQ hN => ?_)
  show Z g x 5 0 [some (.ref q), some (.int hh), some (.ref kk), some (.ref vv), some (va_rf nn)] [] w 0 0
  refine Z.aload_n ok dJ27_init_0 rfl (by first | exact isRf.r _ | exact isRf.n | exact isRf.v _ | assumption) ?_
  refine Z.iload_n ok dJ27_init_1 rfl ?_
  refine Z.aload_n ok dJ27_init_2 rfl (by first | exact isRf.r _ | exact isRf.n | exact isRf.v _ | assumption) ?_
  refine Z.aload_n ok dJ27_init_3 rfl (by first | exact isRf.r _ | exact isRf.n | exact isRf.v _ | assumption) ?_
  refine Z.aload ok dJ27_init_4 rfl (by first | exact isRf.r _ | exact isRf.n | exact isRf.v _ | assumption) ?_
  refine Z.callI ok (tnodeInit0_ct hq) q1326 q1261 q52 q1262 rfl nk_J26_init rfl (by decide) (by first | exact Nat.le_of_ble_eq_true rfl | simp [Value.category, cat_rf]) (Nat.le_refl _) (Nat.le_refl _) dJ27_init_6 rfl ZX.no (fun v w1 hp => ?_)
  obtain ⟨rfl, h1, h2⟩ := hp
  refine Z.vret ok hQ rfl dJ27_init_9 ?_
  exact ⟨rfl, h1, h2⟩
theorem tnodeInit_ct {q kk vv : Nat} {hh : Int32} {nn : Option Nat} (hq : w q = some (ob 9 [.null, .null, .int 0, .null, .null, .null, .null, .null, .null, .null, .int 0], 5)) : Ct g yJ28_init cJ28_init 5 none 3 0 0 [.ref q, .int hh, .ref kk, .ref vv, va_rf nn] w (fun o w' => o = none ∧ w' q = some (ob 9 [.null, .null, .int hh, .ref kk, .ref vv, va_rf nn, .null, .null, .null, .null, .int 0], 5) ∧ ∀ b, b ≠ q → w' b = w b) noX := by
  refine Ct.of RJ28 "<init>" ⟨rfl, rfl⟩ (by decide +kernel) (by simp [Value.category] <;> exact cat_rf _) (Nat.le_of_ble_eq_true rfl) (fun x ok hQ hN => ?_)
  show Z g x 5 0 [some (.ref q), some (.int hh), some (.ref kk), some (.ref vv), some (va_rf nn)] [] w 0 0
  refine Z.aload_n ok dJ28_init_0 rfl (by first | exact isRf.r _ | exact isRf.n | exact isRf.v _ | assumption) ?_
  refine Z.iload_n ok dJ28_init_1 rfl ?_
  refine Z.aload_n ok dJ28_init_2 rfl (by first | exact isRf.r _ | exact isRf.n | exact isRf.v _ | assumption) ?_
  refine Z.aload_n ok dJ28_init_3 rfl (by first | exact isRf.r _ | exact isRf.n | exact isRf.v _ | assumption) ?_
  refine Z.aload ok dJ28_init_4 rfl (by first | exact isRf.r _ | exact isRf.n | exact isRf.v _ | assumption) ?_
  refine Z.callI ok (tnodeInit1_ct hq) q1323 q1324 q53 q1325 rfl nk_J27_init rfl (by decide) (by first | exact Nat.le_of_ble_eq_true rfl | simp [Value.category, cat_rf]) (Nat.le_refl _) (Nat.le_refl _) dJ28_init_6 rfl ZX.no (fun v w1 hp => ?_)
  obtain ⟨rfl, h1, h2⟩ := hp
  refine Z.vret ok hQ rfl dJ28_init_9 ?_
  exact ⟨rfl, h1, h2⟩
theorem newNode_ct {kk vv : Nat} {hh : Int32} {nn : Option Nat} : Ct g yJ4_newNode cJ4_newNode 5 (some (.object "java/util/HashMap$Node")) 2 1 4 [.ref m, .int hh, .ref kk, .ref vv, va_rf nn] w (fun o w' => ∃ q, o = some (.ref q) ∧ w q = none ∧ w' q = some (ob 8 [.int hh, .ref kk, .ref vv, va_rf nn], 5) ∧ ∀ b, b ≠ q → w' b = w b) noX := by
  refine Ct.of RJ4 "newNode" ⟨rfl, rfl⟩ (by decide +kernel) (by simp [Value.category] <;> exact cat_rf _) (Nat.le_of_ble_eq_true rfl) (fun x ok hQ hN => ?_)
  show Z g x 5 0 [some (.ref m), some (.int hh), some (.ref kk), some (.ref vv), some (va_rf nn)] [] w 1 4
  refine Z.room (kc' := 0 + 1) (ks' := 0 + 4) (by omega) (by omega) ?_
  refine Z.new (ci := 8) (C := RJ26) (T := TJ26) (N := 4) (fs := [.int 0, .null, .null, .null]) (ty := tyJ26) 5 ok rfl in_J26 tyJ26_ok q1244 q1259 q52 (def_ok (by decide +kernel)) (Nat.le_refl _) (Nat.le_refl _) dJ4_newNode_0 (fun q hqn hqA => ?_)
  refine Z.dup ok dJ4_newNode_3 (by first | rfl | exact cat_rf _) ?_
  refine Z.iload_n ok dJ4_newNode_4 rfl ?_
  refine Z.aload_n ok dJ4_newNode_5 rfl (by first | exact isRf.r _ | exact isRf.n | exact isRf.v _ | assumption) ?_
  refine Z.aload_n ok dJ4_newNode_6 rfl (by first | exact isRf.r _ | exact isRf.n | exact isRf.v _ | assumption) ?_
  refine Z.aload ok dJ4_newNode_7 rfl (by first | exact isRf.r _ | exact isRf.n | exact isRf.v _ | assumption) ?_
  refine Z.callI (kc' := 0) (ks' := 0) ok (nodeInit_ct (nn := nn) ws_s) q1260 q1261 q52 q1262 rfl nk_J26_init rfl (by decide) (by first | exact Nat.le_of_ble_eq_true rfl | simp [Value.category, cat_rf]) (by omega) (by omega) dJ4_newNode_9 rfl ZX.no (fun v w1 hp => ?_)
  obtain ⟨rfl, h1, h2⟩ := hp
  refine Z.aret ok hQ (by first | exact Or.inl ⟨_, rfl⟩ | exact Or.inr ⟨_, rfl⟩) (by first | exact isRf.r _ | exact isRf.n | exact isRf.v _ | assumption) dJ4_newNode_12 ?_
  exact ⟨q, rfl, hqn, h1, fun b hb => (h2 b hb).trans (ws_n hb)⟩
theorem newTNode_ct {kk vv : Nat} {hh : Int32} {nn : Option Nat} : Ct g yJ4_newTreeNode cJ4_newTreeNode 5 (some (.object "java/util/HashMap$TreeNode")) 4 1 11 [.ref m, .int hh, .ref kk, .ref vv, va_rf nn] w (fun o w' => ∃ q, o = some (.ref q) ∧ w q = none ∧ w' q = some (ob 9 [.null, .null, .int hh, .ref kk, .ref vv, va_rf nn, .null, .null, .null, .null, .int 0], 5) ∧ ∀ b, b ≠ q → w' b = w b) noX := by
  refine Ct.of RJ4 "newTreeNode" ⟨rfl, rfl⟩ (by decide +kernel) (by simp [Value.category] <;> exact cat_rf _) (Nat.le_of_ble_eq_true rfl) (fun x ok hQ hN => ?_)
  show Z g x 5 0 [some (.ref m), some (.int hh), some (.ref kk), some (.ref vv), some (va_rf nn)] [] w 1 11
  refine Z.room (kc' := 0 + 1) (ks' := 0 + 11) (by omega) (by omega) ?_
  refine Z.new (ci := 9) (C := RJ28) (T := TJ28) (N := 11) (fs := [.null, .null, .int 0, .null, .null, .null, .null, .null, .null, .null, .int 0]) (ty := tyJ28) 5 ok rfl in_J28 tyJ28_ok q710 q1319 q54 (def_ok (by decide +kernel)) (Nat.le_refl _) (Nat.le_refl _) dJ4_newTreeNode_0 (fun q hqn hqA => ?_)
  refine Z.dup ok dJ4_newTreeNode_3 (by first | rfl | exact cat_rf _) ?_
  refine Z.iload_n ok dJ4_newTreeNode_4 rfl ?_
  refine Z.aload_n ok dJ4_newTreeNode_5 rfl (by first | exact isRf.r _ | exact isRf.n | exact isRf.v _ | assumption) ?_
  refine Z.aload_n ok dJ4_newTreeNode_6 rfl (by first | exact isRf.r _ | exact isRf.n | exact isRf.v _ | assumption) ?_
  refine Z.aload ok dJ4_newTreeNode_7 rfl (by first | exact isRf.r _ | exact isRf.n | exact isRf.v _ | assumption) ?_
  refine Z.callI (kc' := 0) (ks' := 0) ok (tnodeInit_ct (nn := nn) ws_s) q1320 q1321 q54 q1322 rfl nk_J28_init rfl (by decide) (by first | exact Nat.le_of_ble_eq_true rfl | simp [Value.category, cat_rf]) (by omega) (by omega) dJ4_newTreeNode_9 rfl ZX.no (fun v w1 hp => ?_)
  obtain ⟨rfl, h1, h2⟩ := hp
  refine Z.aret ok hQ (by first | exact Or.inl ⟨_, rfl⟩ | exact Or.inr ⟨_, rfl⟩) (by first | exact isRf.r _ | exact isRf.n | exact isRf.v _ | assumption) dJ4_newTreeNode_12 ?_
  exact ⟨q, rfl, hqn, h1, fun b hb => (h2 b hb).trans (ws_n hb)⟩
theorem replT_ct {p kk vv : Nat} {hh : Int32} {n0 : Value} (hp0 : w p = some (ob 8 [.int hh, .ref kk, .ref vv, n0], 5)) : Ct g yJ4_replacementTreeNode cJ4_replacementTreeNode 3 (some (.object "java/util/HashMap$TreeNode")) 4 1 11 [.ref m, .ref p, .null] w (fun o w' => ∃ q, o = some (.ref q) ∧ w q = none ∧ w' q = some (ob 9 [.null, .null, .int hh, .ref kk, .ref vv, .null, .null, .null, .null, .null, .int 0], 5) ∧ ∀ b, b ≠ q → w' b = w b) noX := by
  refine Ct.of RJ4 "replacementTreeNode" ⟨rfl, rfl⟩ (by decide +kernel) (by simp [Value.category] <;> exact cat_rf _) (Nat.le_of_ble_eq_true rfl) (fun x ok hQ hN => ?_)
  show Z g x 3 0 [some (.ref m), some (.ref p), some (.null)] [] w 1 11
  refine Z.room (kc' := 0 + 1) (ks' := 0 + 11) (by omega) (by omega) ?_
  refine Z.new (ci := 9) (C := RJ28) (T := TJ28) (N := 11) (fs := [.null, .null, .int 0, .null, .null, .null, .null, .null, .null, .null, .int 0]) (ty := tyJ28) 5 ok rfl in_J28 tyJ28_ok q710 q1319 q54 (def_ok (by decide +kernel)) (Nat.le_refl _) (Nat.le_refl _) dJ4_replacementTreeNode_0 (fun q hqn hqA => ?_)
  refine Z.dup ok dJ4_replacementTreeNode_3 (by first | rfl | exact cat_rf _) ?_
  have hne : p ≠ q := fun e => by rw [e, hqn] at hp0; cases hp0
  have hp1 : wset w q (ob 9 [.null, .null, .int 0, .null, .null, .null, .null, .null, .null, .null, .int 0]) 5 p = _ := (ws_n hne).trans hp0
  refine Z.aload_n ok dJ4_replacementTreeNode_4 rfl (by first | exact isRf.r _ | exact isRf.n | exact isRf.v _ | assumption) ?_
  refine Z.get (ci := 8) (C := RJ26) (T := TJ26) (N := 4) ok (by first | assumption | exact ws_s | exact hT _ (by assumption) | (rw [ws_n (by assumption)]; assumption)) rfl in_J26 0 (by decide) q1267 (Or.inl rfl) (by rfl) dJ4_replacementTreeNode_5 ?_
  refine Z.aload_n ok dJ4_replacementTreeNode_8 rfl (by first | exact isRf.r _ | exact isRf.n | exact isRf.v _ | assumption) ?_
  refine Z.get (ci := 8) (C := RJ26) (T := TJ26) (N := 4) ok (by first | assumption | exact ws_s | exact hT _ (by assumption) | (rw [ws_n (by assumption)]; assumption)) rfl in_J26 1 (by decide) q1271 (Or.inl rfl) (by rfl) dJ4_replacementTreeNode_9 ?_
  refine Z.aload_n ok dJ4_replacementTreeNode_12 rfl (by first | exact isRf.r _ | exact isRf.n | exact isRf.v _ | assumption) ?_
  refine Z.get (ci := 8) (C := RJ26) (T := TJ26) (N := 4) ok (by first | assumption | exact ws_s | exact hT _ (by assumption) | (rw [ws_n (by assumption)]; assumption)) rfl in_J26 2 (by decide) q1273 (Or.inl rfl) (by rfl) dJ4_replacementTreeNode_13 ?_
  refine Z.aload_n ok dJ4_replacementTreeNode_16 rfl (by first | exact isRf.r _ | exact isRf.n | exact isRf.v _ | assumption) ?_
  refine Z.callI (kc' := 0) (ks' := 0) ok (tnodeInit_ct (nn := none) ws_s) q1320 q1321 q54 q1322 rfl nk_J28_init rfl (by decide) (by first | exact Nat.le_of_ble_eq_true rfl | simp [Value.category, cat_rf]) (by omega) (by omega) dJ4_replacementTreeNode_17 rfl ZX.no (fun v w1 hp => ?_)
  obtain ⟨rfl, h1, h2⟩ := hp
  refine Z.aret ok hQ (by first | exact Or.inl ⟨_, rfl⟩ | exact Or.inr ⟨_, rfl⟩) (by first | exact isRf.r _ | exact isRf.n | exact isRf.v _ | assumption) dJ4_replacementTreeNode_20 ?_
  exact ⟨q, rfl, hqn, h1, fun b hb => (h2 b hb).trans (ws_n hb)⟩
theorem replN_ct {p kk vv : Nat} {hh : Int32} {z1 z2 z3 z4 z5 z6 z7 z8 : Value} (hp0 : w p = some (ob 9 [z1, z2, .int hh, .ref kk, .ref vv, z3, z4, z5, z6, z7, z8], 5)) : Ct g yJ4_replacementNode cJ4_replacementNode 3 (some (.object "java/util/HashMap$Node")) 2 1 4 [.ref m, .ref p, .null] w (fun o w' => ∃ q, o = some (.ref q) ∧ w q = none ∧ w' q = some (ob 8 [.int hh, .ref kk, .ref vv, .null], 5) ∧ ∀ b, b ≠ q → w' b = w b) noX := by
  refine Ct.of RJ4 "replacementNode" ⟨rfl, rfl⟩ (by decide +kernel) (by simp [Value.category] <;> exact cat_rf _) (Nat.le_of_ble_eq_true rfl) (fun x ok hQ hN => ?_)
  show Z g x 3 0 [some (.ref m), some (.ref p), some (.null)] [] w 1 4
  refine Z.room (kc' := 0 + 1) (ks' := 0 + 4) (by omega) (by omega) ?_
  refine Z.new (ci := 8) (C := RJ26) (T := TJ26) (N := 4) (fs := [.int 0, .null, .null, .null]) (ty := tyJ26) 5 ok rfl in_J26 tyJ26_ok q1244 q1259 q52 (def_ok (by decide +kernel)) (Nat.le_refl _) (Nat.le_refl _) dJ4_replacementNode_0 (fun q hqn hqA => ?_)
  refine Z.dup ok dJ4_replacementNode_3 (by first | rfl | exact cat_rf _) ?_
  have hne : p ≠ q := fun e => by rw [e, hqn] at hp0; cases hp0
  have hp1 : wset w q (ob 8 [.int 0, .null, .null, .null]) 5 p = _ := (ws_n hne).trans hp0
  refine Z.aload_n ok dJ4_replacementNode_4 rfl (by first | exact isRf.r _ | exact isRf.n | exact isRf.v _ | assumption) ?_
  refine Z.get (ci := 9) (C := RJ28) (T := TJ28) (N := 11) ok (by first | assumption | exact ws_s | exact hT _ (by assumption) | (rw [ws_n (by assumption)]; assumption)) rfl in_J28 2 (by decide) q1267 (Or.inl rfl) (by rfl) dJ4_replacementNode_5 ?_
  refine Z.aload_n ok dJ4_replacementNode_8 rfl (by first | exact isRf.r _ | exact isRf.n | exact isRf.v _ | assumption) ?_
  refine Z.get (ci := 9) (C := RJ28) (T := TJ28) (N := 11) ok (by first | assumption | exact ws_s | exact hT _ (by assumption) | (rw [ws_n (by assumption)]; assumption)) rfl in_J28 3 (by decide) q1271 (Or.inl rfl) (by rfl) dJ4_replacementNode_9 ?_
  refine Z.aload_n ok dJ4_replacementNode_12 rfl (by first | exact isRf.r _ | exact isRf.n | exact isRf.v _ | assumption) ?_
  refine Z.get (ci := 9) (C := RJ28) (T := TJ28) (N := 11) ok (by first | assumption | exact ws_s | exact hT _ (by assumption) | (rw [ws_n (by assumption)]; assumption)) rfl in_J28 4 (by decide) q1273 (Or.inl rfl) (by rfl) dJ4_replacementNode_13 ?_
  refine Z.aload_n ok dJ4_replacementNode_16 rfl (by first | exact isRf.r _ | exact isRf.n | exact isRf.v _ | assumption) ?_
  refine Z.callI (kc' := 0) (ks' := 0) ok (nodeInit_ct (nn := none) ws_s) q1260 q1261 q52 q1262 rfl nk_J26_init rfl (by decide) (by first | exact Nat.le_of_ble_eq_true rfl | simp [Value.category, cat_rf]) (by omega) (by omega) dJ4_replacementNode_17 rfl ZX.no (fun v w1 hp => ?_)
  obtain ⟨rfl, h1, h2⟩ := hp
  refine Z.aret ok hQ (by first | exact Or.inl ⟨_, rfl⟩ | exact Or.inr ⟨_, rfl⟩) (by first | exact isRf.r _ | exact isRf.n | exact isRf.v _ | assumption) dJ4_replacementNode_20 ?_
  exact ⟨q, rfl, hqn, h1, fun b hb => (h2 b hb).trans (ws_n hb)⟩
end NODES
