/-! ===== CONSTRUCTORS: HashMap, Range, Barred, Test.of ===== -/
section CTOR
variable {g : Gx} {w : Wd}
theorem amInit_ct {m : Nat} (_u : Unit) : Ct g yJ3_init cJ3_init 1 none 1 0 0 [.ref m] w (PW none w) noX := by
  refine Ct.of RJ3 "<init>" ⟨rfl, rfl⟩ (by decide +kernel) (by simp [Value.category] <;> exact cat_rf _) (Nat.le_of_ble_eq_true rfl) (fun x ok hQ hN => ?_)
  show Z g x 1 0 [some (.ref m)] [] w 0 0
  refine Z.aload_n ok dJ3_init_0 rfl (by first | exact isRf.r _ | exact isRf.n | exact isRf.v _ | assumption) ?_
  refine Z.objInit ok q97 q61 q62 (by decide) (by first | exact Nat.le_of_ble_eq_true rfl | simp [Value.category, cat_rf]) dJ3_init_1 ?_
  refine Z.vret ok hQ rfl dJ3_init_4 ?_
  exact ⟨rfl, rfl⟩
theorem hmInit_ct {m : Nat} (h : w m = some (ob 7 [.null, .null, .null, .null, .int 0, .int 0, .int 0, .float 0], 4)) : Ct g yJ4_init cJ4_init 1 none 2 0 0 [.ref m] w (fun o w' => o = none ∧ isHM g w' m [] ∧ ∀ b, b ≠ m → w' b = w b) noX := by
  refine Ct.of RJ4 "<init>" ⟨rfl, rfl⟩ (by decide +kernel) (by simp [Value.category] <;> exact cat_rf _) (Nat.le_of_ble_eq_true rfl) (fun x ok hQ hN => ?_)
  show Z g x 1 0 [some (.ref m)] [] w 0 0
  refine Z.aload_n ok dJ4_init_0 rfl (by first | exact isRf.r _ | exact isRf.n | exact isRf.v _ | assumption) ?_
  refine Z.callI ok (amInit_ct ()) q94 q95 q20 q96 rfl nk_J3_init rfl (by decide) (by first | exact Nat.le_of_ble_eq_true rfl | simp [Value.category, cat_rf]) (Nat.le_refl _) (Nat.le_refl _) dJ4_init_1 rfl ZX.no (fun v w1 hr => ?_)
  obtain ⟨rfl, rfl⟩ := hr
  refine Z.aload_n ok dJ4_init_4 rfl (by first | exact isRf.r _ | exact isRf.n | exact isRf.v _ | assumption) ?_
  refine Z.ldcf ok q98 dJ4_init_5 ?_
  refine Z.putF (ci := 7) (C := RJ4) (T := TJ4) (N := 8) (ty0 := tyJ4) ok (by first | assumption | exact ws_s | exact hT _ (by assumption) | (rw [ws_n (by assumption)]; assumption)) (by decide) rfl in_J4 tyJ4_ok nmJ4 7 (by decide) q103 (Or.inl rfl) rfl hN rfl (by exact ⟨rfl, rfl⟩) (by rfl) dJ4_init_7 ?_
  refine Z.vret ok hQ rfl dJ4_init_10 ?_
  exact ⟨rfl, ⟨List.nodup_nil, 0, _, Or.inl ⟨rfl, ws_s⟩⟩, fun b hb => ws_n hb⟩
theorem recInit_ct {m : Nat} (_u : Unit) : Ct g yJ18_init cJ18_init 1 none 1 0 0 [.ref m] w (PW none w) noX := by
  refine Ct.of RJ18 "<init>" ⟨rfl, rfl⟩ (by decide +kernel) (by simp [Value.category] <;> exact cat_rf _) (Nat.le_of_ble_eq_true rfl) (fun x ok hQ hN => ?_)
  show Z g x 1 0 [some (.ref m)] [] w 0 0
  refine Z.aload_n ok dJ18_init_0 rfl (by first | exact isRf.r _ | exact isRf.n | exact isRf.v _ | assumption) ?_
  refine Z.objInit ok q1177 q61 q62 (by decide) (by first | exact Nat.le_of_ble_eq_true rfl | simp [Value.category, cat_rf]) dJ18_init_1 ?_
  refine Z.vret ok hQ rfl dJ18_init_4 ?_
  exact ⟨rfl, rfl⟩
theorem rngInit_ct {r : Nat} {n lo hi : Int32} (h : w r = some (ob 4 [.int 0, .int 0, .int 0], 18)) : Ct g yX6_init cX6_init 4 none 2 0 0 [.ref r, .int n, .int lo, .int hi] w (fun o w' => o = none ∧ w' r = some (ob 4 [.int n, .int lo, .int hi], 18) ∧ ∀ b, b ≠ r → w' b = w b) noX := by
  refine Ct.of RX6 "<init>" ⟨rfl, rfl⟩ (by decide +kernel) (by simp [Value.category] <;> exact cat_rf _) (Nat.le_of_ble_eq_true rfl) (fun x ok hQ hN => ?_)
  show Z g x 4 0 [some (.ref r), some (.int n), some (.int lo), some (.int hi)] [] w 0 0
  refine Z.aload_n ok dX6_init_0 rfl (by first | exact isRf.r _ | exact isRf.n | exact isRf.v _ | assumption) ?_
  refine Z.callI ok (recInit_ct ()) q1174 q1175 q40 q1176 rfl nk_J18_init rfl (by decide) (by first | exact Nat.le_of_ble_eq_true rfl | simp [Value.category, cat_rf]) (Nat.le_refl _) (Nat.le_refl _) dX6_init_1 rfl ZX.no (fun v w1 hr => ?_)
  obtain ⟨rfl, rfl⟩ := hr
  refine Z.aload_n ok dX6_init_4 rfl (by first | exact isRf.r _ | exact isRf.n | exact isRf.v _ | assumption) ?_
  refine Z.iload_n ok dX6_init_5 rfl ?_
  refine Z.putF (ci := 4) (C := RX6) (T := TX6) (N := 3) (ty0 := tyX6) ok (by first | assumption | exact ws_s | exact hT _ (by assumption) | (rw [ws_n (by assumption)]; assumption)) (by decide) rfl in_X6 tyX6_ok nmX6 0 (by decide) q1178 (Or.inl rfl) rfl hN rfl (okV_i _) (by rfl) dX6_init_6 ?_
  refine Z.aload_n ok dX6_init_9 rfl (by first | exact isRf.r _ | exact isRf.n | exact isRf.v _ | assumption) ?_
  refine Z.iload_n ok dX6_init_10 rfl ?_
  refine Z.putF (ci := 4) (C := RX6) (T := TX6) (N := 3) (ty0 := tyX6) ok (by first | assumption | exact ws_s | exact hT _ (by assumption) | (rw [ws_n (by assumption)]; assumption)) (by decide) rfl in_X6 tyX6_ok nmX6 1 (by decide) q1179 (Or.inl rfl) rfl hN rfl (okV_i _) (by rfl) dX6_init_11 ?_
  refine Z.aload_n ok dX6_init_14 rfl (by first | exact isRf.r _ | exact isRf.n | exact isRf.v _ | assumption) ?_
  refine Z.iload_n ok dX6_init_15 rfl ?_
  refine Z.putF (ci := 4) (C := RX6) (T := TX6) (N := 3) (ty0 := tyX6) ok (by first | assumption | exact ws_s | exact hT _ (by assumption) | (rw [ws_n (by assumption)]; assumption)) (by decide) rfl in_X6 tyX6_ok nmX6 2 (by decide) q1180 (Or.inl rfl) rfl hN rfl (okV_i _) (by rfl) dX6_init_16 ?_
  refine Z.vret ok hQ rfl dX6_init_19 ?_
  exact ⟨rfl, ws_s, fun b hb => (ws_n hb).trans ((ws_n hb).trans (ws_n hb))⟩
theorem barInit_ct {r t : Nat} (h : w t = some (ob 5 [.null], 18)) : Ct g yX7_init cX7_init 2 none 2 0 0 [.ref t, .ref r] w (fun o w' => o = none ∧ w' t = some (ob 5 [.ref r], 18) ∧ ∀ b, b ≠ t → w' b = w b) noX := by
  refine Ct.of RX7 "<init>" ⟨rfl, rfl⟩ (by decide +kernel) (by simp [Value.category] <;> exact cat_rf _) (Nat.le_of_ble_eq_true rfl) (fun x ok hQ hN => ?_)
  show Z g x 2 0 [some (.ref t), some (.ref r)] [] w 0 0
  refine Z.aload_n ok dX7_init_0 rfl (by first | exact isRf.r _ | exact isRf.n | exact isRf.v _ | assumption) ?_
  refine Z.callI ok (recInit_ct ()) q1193 q1175 q40 q1176 rfl nk_J18_init rfl (by decide) (by first | exact Nat.le_of_ble_eq_true rfl | simp [Value.category, cat_rf]) (Nat.le_refl _) (Nat.le_refl _) dX7_init_1 rfl ZX.no (fun v w1 hr => ?_)
  obtain ⟨rfl, rfl⟩ := hr
  refine Z.aload_n ok dX7_init_4 rfl (by first | exact isRf.r _ | exact isRf.n | exact isRf.v _ | assumption) ?_
  refine Z.aload_n ok dX7_init_5 rfl (by first | exact isRf.r _ | exact isRf.n | exact isRf.v _ | assumption) ?_
  refine Z.putF (ci := 5) (C := RX7) (T := TX7) (N := 1) (ty0 := tyX7) ok (by first | assumption | exact ws_s | exact hT _ (by assumption) | (rw [ws_n (by assumption)]; assumption)) (by decide) rfl in_X7 tyX7_ok nmX7 0 (by decide) q1194 (Or.inl rfl) rfl hN rfl (okV_o (by first | exact isRf.r _ | exact isRf.n | exact isRf.v _ | assumption)) (by rfl) dX7_init_6 ?_
  refine Z.vret ok hQ rfl dX7_init_9 ?_
  exact ⟨rfl, ws_s, fun b hb => ws_n hb⟩
theorem testOf_ct {n lo hi b : Int32} (hb : b = 0 ∨ b = 1) : Ct g yX5_of cX5_of 5 (some (.object "AlertIndex$Test")) 3 2 4 [.int n, .int lo, .int hi, .int b] w (fun o w' => ∃ t, o = some (.ref t) ∧ w t = none ∧ (∀ x, w x ≠ none → w' x = w x) ∧ ((b = 0 ∧ w' t = some (ob 4 [.int n, .int lo, .int hi], 18)) ∨ (b = 1 ∧ ∃ r, w' t = some (ob 5 [.ref r], 18) ∧ w' r = some (ob 4 [.int n, .int lo, .int hi], 18)))) noX := by
  refine Ct.of RX5 "of" ⟨rfl, rfl⟩ (by decide +kernel) (by simp [Value.category] <;> exact cat_rf _) (Nat.le_of_ble_eq_true rfl) (fun x ok hQ hN => ?_)
  show Z g x 5 0 [some (.int n), some (.int lo), some (.int hi), some (.int b), none] [] w 2 4
  refine Z.room (kc' := 1 + 1) (ks' := 1 + 3) (by omega) (by omega) ?_
  refine Z.new (ci := 4) (C := RX6) (T := TX6) (N := 3) (fs := [.int 0, .int 0, .int 0]) (ty := tyX6) 18 ok rfl in_X6 tyX6_ok q1169 q1170 q41 (def_ok (by decide +kernel)) (Nat.le_refl _) (Nat.le_refl _) dX5_of_0 (fun r hrn hrA => ?_)
  refine Z.dup ok dX5_of_3 (by first | rfl | exact cat_rf _) ?_
  refine Z.iload_n ok dX5_of_4 rfl ?_
  refine Z.iload_n ok dX5_of_5 rfl ?_
  refine Z.iload_n ok dX5_of_6 rfl ?_
  refine Z.callIN (kc' := 1) (ks' := 1) ok (rngInit_ct ws_s) q1171 q1172 q41 q1173 rfl nk_X6_init rfl (by decide) (by first | exact Nat.le_of_ble_eq_true rfl | simp [Value.category, cat_rf]) (by omega) (by omega) dX5_of_7 rfl ZX.no (fun v w1 hr => ?_)
  obtain ⟨rfl, r1, r2⟩ := hr
  have hF : ∀ x, w x ≠ none → w1 x = w x := fun x hx => (r2 x (fun z => hx (by rw [z]; exact hrn))).trans (ws_n (fun z => hx (by rw [z]; exact hrn)))
  refine Z.astore ok dX5_of_10 (by decide) (by first | exact isRf.r _ | exact isRf.n | exact isRf.v _ | assumption) ?_
  refine Z.iload_n ok dX5_of_12 rfl ?_
  rcases hb with rfl | rfl
  · refine Z.if_eq (tgt := 28) ok dX5_of_13 (by decide) (fun _ => ?_) (fun hc => absurd rfl hc)
    refine Z.aload ok dX5_of_28 rfl (by first | exact isRf.r _ | exact isRf.n | exact isRf.v _ | assumption) ?_
    refine Z.aret ok hQ (by first | exact Or.inl ⟨_, rfl⟩ | exact Or.inr ⟨_, rfl⟩) (by first | exact isRf.r _ | exact isRf.n | exact isRf.v _ | assumption) dX5_of_30 ?_
    exact ⟨r, rfl, hrn, hF, Or.inl ⟨rfl, r1⟩⟩
  · refine Z.if_eq (tgt := 28) ok dX5_of_13 (by decide) (fun hc => absurd hc (by decide)) (fun _ => ?_)
    refine Z.room (kc' := 0 + 1) (ks' := 0 + 1) (by omega) (by omega) ?_
    refine Z.new (ci := 5) (C := RX7) (T := TX7) (N := 1) (fs := [.null]) (ty := tyX7) 18 ok rfl in_X7 tyX7_ok q1188 q1189 q42 (def_ok (by decide +kernel)) (Nat.le_refl _) (Nat.le_refl _) dX5_of_16 (fun t htn htA => ?_)
    refine Z.dup ok dX5_of_19 (by first | rfl | exact cat_rf _) ?_
    refine Z.aload ok dX5_of_20 rfl (by first | exact isRf.r _ | exact isRf.n | exact isRf.v _ | assumption) ?_
    refine Z.callIN (kc' := 0) (ks' := 0) ok (barInit_ct (r := r) ws_s) q1190 q1191 q42 q1192 rfl nk_X7_init rfl (by decide) (by first | exact Nat.le_of_ble_eq_true rfl | simp [Value.category, cat_rf]) (by omega) (by omega) dX5_of_22 rfl ZX.no (fun v w2 hr => ?_)
    obtain ⟨rfl, s1, s2⟩ := hr
    have hrt : r ≠ t := fun z => by rw [z, htn] at r1; cases r1
    refine Z.goto (tgt := 30) ok dX5_of_25 (by decide) ?_
    refine Z.aret ok hQ (by first | exact Or.inl ⟨_, rfl⟩ | exact Or.inr ⟨_, rfl⟩) (by first | exact isRf.r _ | exact isRf.n | exact isRf.v _ | assumption) dX5_of_30 ?_
    have hwt : w t = none := by
      cases hx : w t with
      | none => rfl
      | some y =>
        have := hF t (by rw [hx]; exact Option.some_ne_none _)
        rw [htn, hx] at this
        cases this
    refine ⟨t, rfl, hwt, fun x hx => ?_, Or.inr ⟨rfl, r, s1, (s2 r hrt).trans ((ws_n hrt).trans r1)⟩⟩
    have hxt : x ≠ t := fun z => hx (by rw [z]; exact hwt)
    rw [s2 x hxt, ws_n hxt, hF x hx]
end CTOR
