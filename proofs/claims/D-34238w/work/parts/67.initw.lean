/-! ===== ALERTINDEX: its constructor, walked ===== -/
theorem isL.fr {g : Gx} {w w' : Wd} {l tl : Nat} {xs : List Nat} (h : isL g w l tl xs) (hw : ∀ b, w b ≠ none → w' b = w b) : isL g w' l tl xs := h.kept (fun b y t hb _ => by
  rw [hw b (by rw [hb]; exact Option.some_ne_none _)]
  exact hb)
theorem isL.ne {g : Gx} {w : Wd} {l tl : Nat} {xs : List Nat} (h : isL g w l tl xs) : w l ≠ none := by
  obtain ⟨_, h⟩ := h.obj
  rw [h]
  exact Option.some_ne_none _
section INITW
variable {g : Gx} {w0 : Wd}
theorem init_ctA {a : Nat} (ha : w0 a = some (ob 0 [.null, .null, .null, .null, .int 0], 10)) : Ct g yX1_init cX1_init 2 none 5 4 20 [.ref a] w0 (fun o w' => o = none ∧ ∃ lq d mm li f, w' a = some (ob 0 [.ref lq, .ref d, .ref mm, .ref li, .int 0], 10) ∧ w' d = some (eI g 6 f, 11) ∧ (∀ j, f j = if j < 6 then -1 else 0) ∧ isL g w' lq 12 [] ∧ isHM g w' mm [] ∧ isL g w' li 13 [] ∧ w0 lq = none ∧ w0 d = none ∧ w0 mm = none ∧ w0 li = none ∧ (∀ b, w0 b ≠ none → b ≠ a → w' b = w0 b)) noX := by
  refine Ct.of RX1 "<init>" ⟨rfl, rfl⟩ (by decide +kernel) (by simp [Value.category] <;> exact cat_rf _) (Nat.le_of_ble_eq_true rfl) (fun x ok hQ hN => ?_)
  show Z g x 2 0 [some (.ref a), none] [] w0 4 20
  refine Z.room (kc' := 3 + 1) (ks' := 17 + 3) (by omega) (by omega) ?_
  refine Z.aload_n ok dX1_init_0 rfl (by first | exact isRf.r _ | exact isRf.n | exact isRf.v _ | assumption) ?_
  refine Z.objInit ok q60 q61 q62 (by decide) (by first | exact Nat.le_of_ble_eq_true rfl | simp [Value.category, cat_rf]) dX1_init_1 ?_
  refine Z.aload_n ok dX1_init_4 rfl (by first | exact isRf.r _ | exact isRf.n | exact isRf.v _ | assumption) ?_
  refine Z.new (ci := 6) (C := RJ2) (T := TJ2) (N := 3) (fs := [.int 0, .null, .int 0]) (ty := tyJ2) 12 ok rfl in_J2 tyJ2_ok q63 q64 q19 (def_ok (by decide +kernel)) (Nat.le_refl _) (Nat.le_refl _) dX1_init_5 (fun lq hlqn hlqA => ?_)
  refine Z.dup ok dX1_init_8 (by first | rfl | exact cat_rf _) ?_
  have n1 : a ≠ lq := fun z => by rw [z, hlqn] at ha; cases ha
  refine Z.callI (kc' := 3) (ks' := 17) ok (alistInit2_ct ws_s (by decide)) q65 q66 q19 q67 rfl nk_J2_init rfl (by decide) (by first | exact Nat.le_of_ble_eq_true rfl | simp [Value.category, cat_rf]) (by omega) (by omega) dX1_init_9 rfl ZX.no (fun v w2 hr => ?_)
  obtain ⟨rfl, hL, hF⟩ := hr
  have hK : ∀ b, b ≠ lq → w2 b = w0 b := fun b hb => (hF b hb).trans (ws_n hb)
  have ha2 := (hK a n1).trans ha
  refine Z.putF (ci := 0) (C := RX1) (T := TX1) (N := 5) (ty0 := tyX1) ok (by first | assumption | exact ws_s | exact hT _ (by assumption) | (rw [ws_n (by assumption)]; assumption)) (by decide) rfl in_X1 tyX1_ok nmX1 0 (by decide) q122 (Or.inl rfl) rfl hN rfl (okV_o (by first | exact isRf.r _ | exact isRf.n | exact isRf.v _ | assumption)) (by rfl) dX1_init_12 ?_
  have hL3 := hL.set1 (e' := ob 0 ([Value.null, .null, .null, .null, .int 0].set 0 (.ref lq))) n1 ha2 (by omega)
  have ha3 : wset w2 a (ob 0 ([Value.null, .null, .null, .null, .int 0].set 0 (.ref lq))) 10 a = some (ob 0 [.ref lq, .null, .null, .null, .int 0], 10) := ws_s
  have hK3 : ∀ b, b ≠ a → b ≠ lq → wset w2 a (ob 0 ([Value.null, .null, .null, .null, .int 0].set 0 (.ref lq))) 10 b = w0 b := fun b h1 h2 => (ws_n h1).trans (hK b h2)
  generalize wset w2 a (ob 0 ([Value.null, .null, .null, .null, .int 0].set 0 (.ref lq))) 10 = w3 at hL3 ha3 hK3 ⊢
  refine Z.aload_n ok dX1_init_15 rfl (by first | exact isRf.r _ | exact isRf.n | exact isRf.v _ | assumption) ?_
  refine Z.bipush (v := 6) ok dX1_init_16 (by decide) ?_
  refine Z.newI (N := 6) (kc' := 2) (ks' := 11) 11 ok q121 (by decide) (by decide) (by decide) (by omega) (by omega) dX1_init_18 (fun d hdn hdA => ?_)
  have n2 : a ≠ d := fun z => by rw [z, hdn] at ha3; cases ha3
  have n3 : lq ≠ d := fun z => hL3.ne (by rw [z]; exact hdn)
  have hL4 := hL3.fr (w' := wset w3 d (eI g 6 (fun _ => 0)) 11) (fun b hb => ws_n (fun z => hb (by rw [z]; exact hdn)))
  have ha4 : wset w3 d (eI g 6 (fun _ => 0)) 11 a = _ := (ws_n n2).trans ha3
  refine Z.putF (ci := 0) (C := RX1) (T := TX1) (N := 5) (ty0 := tyX1) ok (by first | assumption | exact ws_s | exact hT _ (by assumption) | (rw [ws_n (by assumption)]; assumption)) (by decide) rfl in_X1 tyX1_ok nmX1 1 (by decide) q123 (Or.inl rfl) rfl hN rfl (okV_a (by first | exact isRf.r _ | exact isRf.n | exact isRf.v _ | assumption)) (by rfl) dX1_init_20 ?_
  have hL5 := hL4.set1 (e' := ob 0 ([Value.ref lq, .null, .null, .null, .int 0].set 1 (.ref d))) n1 ha4 (by omega)
  have hd5 : wset (wset w3 d (eI g 6 (fun _ => 0)) 11) a (ob 0 ([Value.ref lq, .null, .null, .null, .int 0].set 1 (.ref d))) 10 d = some (eI g 6 (fun _ => 0), 11) := (ws_n (Ne.symm n2)).trans ws_s
  have ha5 : wset (wset w3 d (eI g 6 (fun _ => 0)) 11) a (ob 0 ([Value.ref lq, .null, .null, .null, .int 0].set 1 (.ref d))) 10 a = some (ob 0 [.ref lq, .ref d, .null, .null, .int 0], 10) := ws_s
  have hK5 : ∀ b, b ≠ a → b ≠ lq → b ≠ d → wset (wset w3 d (eI g 6 (fun _ => 0)) 11) a (ob 0 ([Value.ref lq, .null, .null, .null, .int 0].set 1 (.ref d))) 10 b = w0 b := fun b h1 h2 h3 => (ws_n h1).trans ((ws_n h3).trans (hK3 b h1 h2))
  generalize wset (wset w3 d (eI g 6 (fun _ => 0)) 11) a (ob 0 ([Value.ref lq, .null, .null, .null, .int 0].set 1 (.ref d))) 10 = w5 at hL5 hd5 ha5 hK5 ⊢
  refine Z.room (kc' := 1 + 1) (ks' := 3 + 8) (by omega) (by omega) ?_
  refine Z.aload_n ok dX1_init_23 rfl (by first | exact isRf.r _ | exact isRf.n | exact isRf.v _ | assumption) ?_
  refine Z.new (ci := 7) (C := RJ4) (T := TJ4) (N := 8) (fs := [.null, .null, .null, .null, .int 0, .int 0, .int 0, .float 0]) (ty := tyJ4) 4 ok rfl in_J4 tyJ4_ok q89 q90 q21 (def_ok (by decide +kernel)) (Nat.le_refl _) (Nat.le_refl _) dX1_init_24 (fun mm hmmn hmmA => ?_)
  refine Z.dup ok dX1_init_27 (by first | rfl | exact cat_rf _) ?_
  refine Z.callI (kc' := 1) (ks' := 3) ok (hmInit_ct ws_s) q91 q92 q21 q93 rfl nk_J4_init rfl (by decide) (by first | exact Nat.le_of_ble_eq_true rfl | simp [Value.category, cat_rf]) (by omega) (by omega) dX1_init_28 rfl ZX.no (fun v w6 hr => ?_)
  obtain ⟨rfl, hM, hF6⟩ := hr
  have hK6 : ∀ b, w5 b ≠ none → w6 b = w5 b := fun b hb => by
    have : b ≠ mm := fun z => hb (by rw [z]; exact hmmn)
    exact (hF6 b this).trans (ws_n this)
  have ha6 := (hK6 a (by rw [ha5]; exact Option.some_ne_none _)).trans ha5
  have hd6 := (hK6 d (by rw [hd5]; exact Option.some_ne_none _)).trans hd5
  have hL6 := hL5.fr hK6
  have nmm : mm ≠ a := fun z => by rw [z, ha5] at hmmn; cases hmmn
  have nmd : mm ≠ d := fun z => by rw [z, hd5] at hmmn; cases hmmn
  have nml : mm ≠ lq := fun z => hL5.ne (by rw [← z]; exact hmmn)
  refine Z.putF (ci := 0) (C := RX1) (T := TX1) (N := 5) (ty0 := tyX1) ok (by first | assumption | exact ws_s | exact hT _ (by assumption) | (rw [ws_n (by assumption)]; assumption)) (by decide) rfl in_X1 tyX1_ok nmX1 2 (by decide) q124 (Or.inl rfl) rfl hN rfl (okV_o (by first | exact isRf.r _ | exact isRf.n | exact isRf.v _ | assumption)) (by rfl) dX1_init_31 ?_
  have hM7 : isHM g (wset w6 a (ob 0 ([Value.ref lq, .ref d, .null, .null, .int 0].set 2 (.ref mm))) 10) mm [] := hM.keep (fun b y t hb ht => (ws_n (fun z => by rw [z, ha6] at hb; cases hb; omega)).trans hb)
  have hL7 := hL6.set1 (e' := ob 0 ([Value.ref lq, .ref d, .null, .null, .int 0].set 2 (.ref mm))) n1 ha6 (by omega)
  have hd7 := (ws_n (w := w6) (e := ob 0 ([Value.ref lq, .ref d, .null, .null, .int 0].set 2 (.ref mm))) (t := 10) (Ne.symm n2)).trans hd6
  have ha7 : wset w6 a (ob 0 ([Value.ref lq, .ref d, .null, .null, .int 0].set 2 (.ref mm))) 10 a = some (ob 0 [.ref lq, .ref d, .ref mm, .null, .int 0], 10) := ws_s
  have hK7 : ∀ b, w5 b ≠ none → b ≠ a → wset w6 a (ob 0 ([Value.ref lq, .ref d, .null, .null, .int 0].set 2 (.ref mm))) 10 b = w5 b := fun b h1 h2 => (ws_n h2).trans (hK6 b h1)
  have hmm0 : w0 mm = none := (hK5 mm nmm nml nmd).symm.trans hmmn
  generalize wset w6 a (ob 0 ([Value.ref lq, .ref d, .null, .null, .int 0].set 2 (.ref mm))) 10 = w7 at hM7 hL7 hd7 ha7 hK7 ⊢
  refine Z.room (kc' := 0 + 1) (ks' := 0 + 3) (by omega) (by omega) ?_
  refine Z.aload_n ok dX1_init_34 rfl (by first | exact isRf.r _ | exact isRf.n | exact isRf.v _ | assumption) ?_
  refine Z.new (ci := 6) (C := RJ2) (T := TJ2) (N := 3) (fs := [.int 0, .null, .int 0]) (ty := tyJ2) 13 ok rfl in_J2 tyJ2_ok q63 q64 q19 (def_ok (by decide +kernel)) (Nat.le_refl _) (Nat.le_refl _) dX1_init_35 (fun li hlin hliA => ?_)
  refine Z.dup ok dX1_init_38 (by first | rfl | exact cat_rf _) ?_
  refine Z.callI (kc' := 0) (ks' := 0) ok (alistInit2_ct ws_s (by decide)) q65 q66 q19 q67 rfl nk_J2_init rfl (by decide) (by first | exact Nat.le_of_ble_eq_true rfl | simp [Value.category, cat_rf]) (by omega) (by omega) dX1_init_39 rfl ZX.no (fun v w8 hr => ?_)
  obtain ⟨rfl, hLi, hF8⟩ := hr
  have hK8 : ∀ b, w7 b ≠ none → w8 b = w7 b := fun b hb => by
    have : b ≠ li := fun z => hb (by rw [z]; exact hlin)
    exact (hF8 b this).trans (ws_n this)
  have ha8 := (hK8 a (by rw [ha7]; exact Option.some_ne_none _)).trans ha7
  have hd8 := (hK8 d (by rw [hd7]; exact Option.some_ne_none _)).trans hd7
  have hL8 := hL7.fr hK8
  have hM8 : isHM g w8 mm [] := hM7.keep (fun b y t hb _ => (hK8 b (by rw [hb]; exact Option.some_ne_none _)).trans hb)
  have nali : a ≠ li := fun z => by rw [z, hlin] at ha7; cases ha7
  have hli0 : w0 li = none := by
    cases hx : w0 li with
    | none => rfl
    | some y =>
      have h1 : li ≠ lq := fun z => hL7.ne (by rw [← z]; exact hlin)
      have h2 : li ≠ d := fun z => by rw [← z, hlin] at hd7; cases hd7
      have h3 := hK5 li (Ne.symm nali) h1 h2
      have h4 := hK7 li (by rw [h3, hx]; exact Option.some_ne_none _) (Ne.symm nali)
      rw [h3, hx, hlin] at h4
      cases h4
  refine Z.putF (ci := 0) (C := RX1) (T := TX1) (N := 5) (ty0 := tyX1) ok (by first | assumption | exact ws_s | exact hT _ (by assumption) | (rw [ws_n (by assumption)]; assumption)) (by decide) rfl in_X1 tyX1_ok nmX1 3 (by decide) q125 (Or.inl rfl) rfl hN rfl (okV_o (by first | exact isRf.r _ | exact isRf.n | exact isRf.v _ | assumption)) (by rfl) dX1_init_42 ?_
  refine Z.iconst_0 ok dX1_init_45 ?_
  refine Z.istore_n (i := 1) ok dX1_init_46 rfl (by decide) ?_
  have hL9 := hL8.set1 (e' := ob 0 ([Value.ref lq, .ref d, .ref mm, .null, .int 0].set 3 (.ref li))) n1 ha8 (by omega)
  have hLi9 := hLi.set1 (e' := ob 0 ([Value.ref lq, .ref d, .ref mm, .null, .int 0].set 3 (.ref li))) nali ha8 (by omega)
  have hM9 : isHM g (wset w8 a (ob 0 ([Value.ref lq, .ref d, .ref mm, .null, .int 0].set 3 (.ref li))) 10) mm [] := hM8.keep (fun b y t hb ht => (ws_n (fun z => by rw [z, ha8] at hb; cases hb; omega)).trans hb)
  have hd9 := (ws_n (w := w8) (e := ob 0 ([Value.ref lq, .ref d, .ref mm, .null, .int 0].set 3 (.ref li))) (t := 10) (Ne.symm n2)).trans hd8
  have ha9 : wset w8 a (ob 0 ([Value.ref lq, .ref d, .ref mm, .null, .int 0].set 3 (.ref li))) 10 a = some (ob 0 [.ref lq, .ref d, .ref mm, .ref li, .int 0], 10) := ws_s
  have hK9 : ∀ b, w0 b ≠ none → b ≠ a → wset w8 a (ob 0 ([Value.ref lq, .ref d, .ref mm, .null, .int 0].set 3 (.ref li))) 10 b = w0 b := fun b h1 h2 => by
    have h3 : b ≠ lq := fun z => h1 (by rw [z]; exact hlqn)
    have h4 : b ≠ d := fun z => h1 (by rw [z]; exact (hK3 d (Ne.symm n2) (Ne.symm n3)).symm.trans hdn)
    have h5 := hK5 b h2 h3 h4
    have h6 := hK7 b (by rw [h5]; exact h1) h2
    rw [ws_n h2, hK8 b (by rw [h6, h5]; exact h1), h6, h5]
  generalize wset w8 a (ob 0 ([Value.ref lq, .ref d, .ref mm, .null, .int 0].set 3 (.ref li))) 10 = w9 at hL9 hLi9 hM9 hd9 ha9 hK9 ⊢
  refine ini_loop (w0 := w9) ok hQ (fun w hd hF => ?_) ha9 n2 6 0 w9 rfl ⟨_, hd9, fun i => (if_neg (Nat.not_lt_zero i)).symm⟩ (fun _ _ => rfl)
  obtain ⟨f, f1, f2⟩ := hd
  have hFL : ∀ b y t, w9 b = some (y, t) → t ≠ 11 → w b = some (y, t) := fun b y t hb ht => by
    rw [hF b (fun z => by rw [z, hd9] at hb; cases hb; exact ht rfl)]
    exact hb
  have kl : ∀ (z tl : Nat), tl ≠ 11 → isL g w9 z tl [] → isL g w z tl [] := fun z tl ht hz => by
    obtain ⟨fz, hzo⟩ := hz.obj
    refine hz.kept (fun b y t hb hc => hFL b y t hb ?_)
    rcases hc with rfl | rfl
    · rw [hzo] at hb
      cases hb
      exact ht
    · omega
  refine ⟨rfl, lq, d, mm, li, f, hFL _ _ _ ha9 (by decide), f1, f2, kl _ _ (by decide) hL9, hM9.keep (fun b y t hb ht => hFL b y t hb (by omega)), kl _ _ (by decide) hLi9, hlqn, (hK3 d (Ne.symm n2) (Ne.symm n3)).symm.trans hdn, hmm0, hli0, fun b h1 h2 => ?_⟩
  have h4 : b ≠ d := fun z => h1 (by rw [z]; exact (hK3 d (Ne.symm n2) (Ne.symm n3)).symm.trans hdn)
  rw [hF b h4, hK9 b h1 h2]
end INITW
