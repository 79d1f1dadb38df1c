/-! ===== CONSTRUCTORS: Question, Product ===== -/
section CTOR2
variable {g : Gx} {w : Wd}
/-- behind a constructor with one new list l at the object q -/
def FrC (q l : Nat) (w w' : Wd) : Prop := ∀ b y t, w b = some (y, t) → b ≠ q → t ≠ 1000 + l → w' b = some (y, t)
theorem isL.set1 {w : Wd} {l tl q t0 : Nat} {xs : List Nat} {e e' : va_E} (h : isL g w l tl xs) (hql : q ≠ l) (hq : w q = some (e, t0)) (ht : t0 ≠ 1000 + l) : isL g (wset w q e' t0) l tl xs := by
  refine h.kept (fun b y t hb hc => ?_)
  have : b ≠ q := by
    rintro rfl
    rw [hq] at hb
    cases hb
    rcases hc with z | z
    · exact hql z
    · exact ht z
  rw [ws_n this]
  exact hb
theorem qInit_ct {q : Nat} (h : w q = some (ob 2 [.null, .int 0, .int 0, .int 0, .int 0, .int 0], 14)) : Ct g yX3_init cX3_init 1 none 4 1 3 [.ref q] w (fun o w' => o = none ∧ ∃ l, w l = none ∧ w' q = some (ob 2 [.ref l, .int 0, .int 0, .int 0, .int 0, .int 0], 14) ∧ isL g w' l 15 [] ∧ FrC q l w w') noX := by
  refine Ct.of RX3 "<init>" ⟨rfl, rfl⟩ (by decide +kernel) (by simp [Value.category] <;> exact cat_rf _) (Nat.le_of_ble_eq_true rfl) (fun x ok hQ hN => ?_)
  show Z g x 1 0 [some (.ref q)] [] w 1 3
  refine Z.room (kc' := 0 + 1) (ks' := 0 + 3) (by omega) (by omega) ?_
  refine Z.aload_n ok dX3_init_0 rfl (by first | exact isRf.r _ | exact isRf.n | exact isRf.v _ | assumption) ?_
  refine Z.objInit ok q1017 q61 q62 (by decide) (by first | exact Nat.le_of_ble_eq_true rfl | simp [Value.category, cat_rf]) dX3_init_1 ?_
  refine Z.aload_n ok dX3_init_4 rfl (by first | exact isRf.r _ | exact isRf.n | exact isRf.v _ | assumption) ?_
  refine Z.new (ci := 6) (C := RJ2) (T := TJ2) (N := 3) (fs := [.int 0, .null, .int 0]) (ty := tyJ2) 15 ok rfl in_J2 tyJ2_ok q1018 q64 q19 (def_ok (by decide +kernel)) (Nat.le_refl _) (Nat.le_refl _) dX3_init_5 (fun l hln hlA => ?_)
  refine Z.dup ok dX3_init_8 (by first | rfl | exact cat_rf _) ?_
  have hql : q ≠ l := fun z => by rw [z, hln] at h; cases h
  have h1 : wset w l (ob 6 [.int 0, .null, .int 0]) 15 q = _ := (ws_n hql).trans h
  have hF1 : ∀ b, w b ≠ none → wset w l (ob 6 [.int 0, .null, .int 0]) 15 b = w b := fun b hb => ws_n (fun z => hb (by rw [z]; exact hln))
  refine Z.callI (kc' := 0) (ks' := 0) ok (alistInit_ct ws_s (by decide)) q1019 q66 q19 q67 rfl nk_J2_init rfl (by decide) (by first | exact Nat.le_of_ble_eq_true rfl | simp [Value.category, cat_rf]) (by omega) (by omega) dX3_init_9 rfl ZX.no (fun v w2 hr => ?_)
  obtain ⟨rfl, hL, hF⟩ := hr
  have h2 := hF _ _ _ h1 hql (by omega)
  refine Z.putF (ci := 2) (C := RX3) (T := TX3) (N := 6) (ty0 := tyX3) ok (by first | assumption | exact ws_s | exact hT _ (by assumption) | (rw [ws_n (by assumption)]; assumption)) (by decide) rfl in_X3 tyX3_ok nmX3 0 (by decide) q1020 (Or.inl rfl) rfl hN rfl (okV_o (by first | exact isRf.r _ | exact isRf.n | exact isRf.v _ | assumption)) (by rfl) dX3_init_12 ?_
  refine Z.vret ok hQ rfl dX3_init_15 ?_
  refine ⟨rfl, l, hln, ws_s, hL.set1 hql h2 (by omega), fun b y t hb hbq ht => ?_⟩
  have hbl : b ≠ l := fun z => by rw [z, hln] at hb; cases hb
  rw [ws_n hbq]
  exact hF _ _ _ ((ws_n hbl).trans hb) hbl ht
theorem pInit_ct {q : Nat} {i : Int32} (h : w q = some (ob 3 [.null, .int 0, .int 0], 16)) : Ct g yX4_init cX4_init 2 none 4 1 3 [.ref q, .int i] w (fun o w' => o = none ∧ ∃ l, w l = none ∧ w' q = some (ob 3 [.ref l, .int i, .int 0], 16) ∧ isL g w' l 17 [] ∧ FrC q l w w') noX := by
  refine Ct.of RX4 "<init>" ⟨rfl, rfl⟩ (by decide +kernel) (by simp [Value.category] <;> exact cat_rf _) (Nat.le_of_ble_eq_true rfl) (fun x ok hQ hN => ?_)
  show Z g x 2 0 [some (.ref q), some (.int i)] [] w 1 3
  refine Z.room (kc' := 0 + 1) (ks' := 0 + 3) (by omega) (by omega) ?_
  refine Z.aload_n ok dX4_init_0 rfl (by first | exact isRf.r _ | exact isRf.n | exact isRf.v _ | assumption) ?_
  refine Z.objInit ok q1130 q61 q62 (by decide) (by first | exact Nat.le_of_ble_eq_true rfl | simp [Value.category, cat_rf]) dX4_init_1 ?_
  refine Z.aload_n ok dX4_init_4 rfl (by first | exact isRf.r _ | exact isRf.n | exact isRf.v _ | assumption) ?_
  refine Z.new (ci := 6) (C := RJ2) (T := TJ2) (N := 3) (fs := [.int 0, .null, .int 0]) (ty := tyJ2) 17 ok rfl in_J2 tyJ2_ok q1131 q64 q19 (def_ok (by decide +kernel)) (Nat.le_refl _) (Nat.le_refl _) dX4_init_5 (fun l hln hlA => ?_)
  refine Z.dup ok dX4_init_8 (by first | rfl | exact cat_rf _) ?_
  have hql : q ≠ l := fun z => by rw [z, hln] at h; cases h
  have h1 : wset w l (ob 6 [.int 0, .null, .int 0]) 17 q = _ := (ws_n hql).trans h
  refine Z.callI (kc' := 0) (ks' := 0) ok (alistInit_ct ws_s (by decide)) q1132 q66 q19 q67 rfl nk_J2_init rfl (by decide) (by first | exact Nat.le_of_ble_eq_true rfl | simp [Value.category, cat_rf]) (by omega) (by omega) dX4_init_9 rfl ZX.no (fun v w2 hr => ?_)
  obtain ⟨rfl, hL, hF⟩ := hr
  have h2 := hF _ _ _ h1 hql (by omega)
  refine Z.putF (ci := 3) (C := RX4) (T := TX4) (N := 3) (ty0 := tyX4) ok (by first | assumption | exact ws_s | exact hT _ (by assumption) | (rw [ws_n (by assumption)]; assumption)) (by decide) rfl in_X4 tyX4_ok nmX4 0 (by decide) q1133 (Or.inl rfl) rfl hN rfl (okV_o (by first | exact isRf.r _ | exact isRf.n | exact isRf.v _ | assumption)) (by rfl) dX4_init_12 ?_
  refine Z.aload_n ok dX4_init_15 rfl (by first | exact isRf.r _ | exact isRf.n | exact isRf.v _ | assumption) ?_
  refine Z.iload_n ok dX4_init_16 rfl ?_
  refine Z.putF (ci := 3) (C := RX4) (T := TX4) (N := 3) (ty0 := tyX4) ok (by first | assumption | exact ws_s | exact hT _ (by assumption) | (rw [ws_n (by assumption)]; assumption)) (by decide) rfl in_X4 tyX4_ok nmX4 1 (by decide) q1135 (Or.inl rfl) rfl hN rfl (okV_i _) (by rfl) dX4_init_17 ?_
  refine Z.vret ok hQ rfl dX4_init_20 ?_
  have hL1 := hL.set1 (e' := ob 3 ([Value.null, .int 0, .int 0].set 0 (.ref l))) hql h2 (by omega)
  refine ⟨rfl, l, hln, ws_s, hL1.set1 hql ws_s (by omega), fun b y t hb hbq ht => ?_⟩
  have hbl : b ≠ l := fun z => by rw [z, hln] at hb; cases hb
  rw [ws_n hbq, ws_n hbq]
  exact hF _ _ _ ((ws_n hbl).trans hb) hbl ht
end CTOR2
