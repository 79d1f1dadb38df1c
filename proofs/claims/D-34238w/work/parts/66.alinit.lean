/-! ===== ArrayList's constructor, with its exact frame ===== -/
section ALINIT
variable {g : Gx} {w : Wd} {l tl : Nat}
theorem absList2_ct (hw : w l = some (ob 6 [.int 0, .null, .int 0], tl)) (ht : tl ≠ 0) : Ct g yJ1_init cJ1_init 1 none 2 0 0 [.ref l] w (fun v w' => v = none ∧ w' l = some (ob 6 [.int 0, .null, .int 0], tl) ∧ ∀ b, b ≠ l → w' b = w b) noX := by
  refine Ct.of RJ1 "<init>" ⟨rfl, rfl⟩ (by decide +kernel) (by simp [Value.category] <;> exact cat_rf _) (Nat.le_of_ble_eq_true rfl) (fun x ok hQ hN => ?_)
  show Z g x 1 0 [some (.ref l)] [] w 0 0
  refine Z.aload_n ok dJ1_init_0 rfl (by first | exact isRf.r _ | exact isRf.n | exact isRf.v _ | assumption) ?_
  refine Z.callI ok (absColl_ct (fs := []) l) q71 q72 q17 q73 rfl nk_J0_init rfl (by decide) (by first | exact Nat.le_of_ble_eq_true rfl | simp [Value.category, cat_rf]) (Nat.le_refl _) (Nat.le_refl _) dJ1_init_1 rfl ZX.no (fun v w1 hp => ?_)
  obtain ⟨rfl, rfl⟩ := hp
  refine Z.aload_n ok dJ1_init_4 rfl (by first | exact isRf.r _ | exact isRf.n | exact isRf.v _ | assumption) ?_
  refine Z.iconst_0 ok dJ1_init_5 ?_
  refine Z.put (ci := 6) (C := RJ2) (T := TJ2) (N := 3) (ty0 := tyJ2) ok (by first | assumption | exact ws_s | exact hT _ (by assumption) | (rw [ws_n (by assumption)]; assumption)) (by first | decide | assumption) rfl in_J2 tyJ2_ok nmJ2 0 (by decide) q79 (Or.inl rfl) rfl (okV_i _) (by rfl) dJ1_init_6 ?_
  refine Z.vret ok hQ rfl dJ1_init_9 ?_
  exact ⟨rfl, ws_s, fun b hb => ws_n hb⟩
theorem alistInit2_ct (hw : w l = some (ob 6 [.int 0, .null, .int 0], tl)) (ht : tl ≠ 0) : Ct g yJ2_init cJ2_init 1 none 3 0 0 [.ref l] w (fun v w' => v = none ∧ isL g w' l tl [] ∧ ∀ b, b ≠ l → w' b = w b) noX := by
  refine Ct.of RJ2 "<init>" ⟨rfl, rfl⟩ (by decide +kernel) (by simp [Value.category] <;> exact cat_rf _) (Nat.le_of_ble_eq_true rfl) (fun x ok hQ hN => ?_)
  show Z g x 1 0 [some (.ref l)] [] w 0 0
  refine Z.aload_n ok dJ2_init_0 rfl (by first | exact isRf.r _ | exact isRf.n | exact isRf.v _ | assumption) ?_
  refine Z.callI ok (absList2_ct hw ht) q68 q69 q18 q70 rfl nk_J1_init rfl (by decide) (by first | exact Nat.le_of_ble_eq_true rfl | simp [Value.category, cat_rf]) (Nat.le_refl _) (Nat.le_refl _) dJ2_init_1 rfl ZX.no (fun v w1 hp => ?_)
  obtain ⟨rfl, hw1, hF1⟩ := hp
  refine Z.aload_n ok dJ2_init_4 rfl (by first | exact isRf.r _ | exact isRf.n | exact isRf.v _ | assumption) ?_
  refine Z.gets ok (fun U h => h.ss.2.2.2.2.1) q75 (Or.inl rfl) dJ2_init_5 ?_
  refine Z.put (ci := 6) (C := RJ2) (T := TJ2) (N := 3) (ty0 := tyJ2) ok (by first | assumption | exact ws_s | exact hT _ (by assumption) | (rw [ws_n (by assumption)]; assumption)) (by first | decide | assumption) rfl in_J2 tyJ2_ok nmJ2 1 (by decide) q77 (Or.inl rfl) rfl (okV_a (by first | exact isRf.r _ | exact isRf.n | exact isRf.v _ | assumption)) (by rfl) dJ2_init_8 ?_
  refine Z.vret ok hQ rfl dJ2_init_11 ?_
  exact ⟨rfl, ⟨0, gS g 0, 0, fun _ => none, ws_s, Nat.le_refl 0, by omega, Or.inl ⟨rfl, rfl⟩, fun j hj => absurd hj (Nat.not_lt_zero _)⟩, fun b hb => (ws_n hb).trans (hF1 b hb)⟩
end ALINIT
