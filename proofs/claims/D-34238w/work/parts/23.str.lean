/-! ===== STRINGS: StringBuilder of Latin-1 letters in 16 bytes ===== -/
theorem lw_ex_0 : (Cond.selects "java/lang/StringBuilder" yJ19_ensureCapacityInternal yJ19_ensureCapacityInternal) ∈ lw_ex := by exact List.mem_cons_self
theorem lw_ex_1 : (Cond.selects "java/lang/StringBuilder" yJ19_putStringAt yJ19_putStringAt) ∈ lw_ex := List.mem_cons_of_mem _ List.mem_cons_self
theorem lw_ex_2 : (Cond.selects "java/lang/StringBuilder" yJ19_inflateIfNeededFor yJ19_inflateIfNeededFor) ∈ lw_ex := List.mem_cons_of_mem _ (List.mem_cons_of_mem _ List.mem_cons_self)
section STR
variable {g : Gx} {w : Wd}
def cLit : Nat → Nat
  | 0 => 110
  | 1 => 58
  | _ => 43
theorem kS {g : Gx} {U : State} (h : KK g U) {i : Nat} (hi : i < 3) : va_OF "java/lang/String" "coder" "B" (.int 0) (gS g (3 + i)) (AA g) U (gH g) ∧ va_OF "java/lang/String" "value" "[B" (.ref (gS g (6 + i))) (gS g (3 + i)) (AA g) U (gH g) ∧ va_T .byte (gS g (6 + i)) 1 (fun j => .int ((([[110], [58], [43]] : List (List Int32)).getD i []).getD j 0)) (AA g) U (gH g) := by
  have hE := h.ss.2.2.2.2.2.2.2.2.2.2.2.1
  obtain ⟨-, h1, h2, h3⟩ := hE.1 i hi
  refine ⟨h1, h2, ?_⟩
  have e : ([1, 1, 1] : List Nat).getD i 0 = 1 := by
    rcases i with _ | _ | _ | i <;> first | rfl | omega
  rw [e] at h3
  exact h3
/-- things of other tags are kept -/
def FrS (w w' : Wd) : Prop := ∀ b e t, w b = some (e, t) → t ≠ 7 → t ≠ 8 → w' b = some (e, t)
theorem FrS.rf {w : Wd} : FrS w w := fun _ _ _ h _ _ => h
theorem FrS.tr {w w1 w2 : Wd} (h1 : FrS w w1) (h2 : FrS w1 w2) : FrS w w2 := fun b e t h a1 a2 => h2 b e t (h1 b e t h a1 a2) a1 a2
theorem FrS.set {w : Wd} {a t' : Nat} {e' : va_E} (h : w a = none ∨ (∃ e, w a = some (e, 7)) ∨ ∃ e, w a = some (e, 8)) : FrS w (wset w a e' t') := by
  intro b e t hb h7 h8
  by_cases hab : b = a
  · subst hab
    rcases h with h | ⟨_, h⟩ | ⟨_, h⟩ <;> rw [h] at hb <;> cases hb <;> contradiction
  · rw [ws_n hab]
    exact hb
/-- a builder that holds xs -/
def isSB (g : Gx) (w : Wd) (s : Nat) (xs : List Nat) : Prop := ∃ a f, w s = some (ob 10 [.ref a, .int 0, .int 0, .int (nI xs.length)], 7) ∧ w a = some (eB g 16 f, 8) ∧ ∀ j, j < xs.length → f j = nI (xs.getD j 0)
theorem sbInit0_ct {s : Nat} (hw : w s = some (ob 10 [.null, .int 0, .int 0, .int 0], 7)) : Ct g yJ19_init cJ19_init 2 none 1 1 16 [.ref s, .int 16] w (fun v w' => v = none ∧ isSB g w' s [] ∧ FrS w w') noX := by
  refine Ct.of RJ19 "<init>" ⟨rfl, rfl⟩ (by decide +kernel) (by simp [Value.category] <;> exact cat_rf _) (Nat.le_of_ble_eq_true rfl) (fun x ok hQ hN => ?_)
  show Z g x 2 0 [some (.ref s), some (.int 16)] [] w 1 16
  refine Z.aload_n ok dJ19_init_0 rfl (by first | exact isRf.r _ | exact isRf.n | exact isRf.v _ | assumption) ?_
  refine Z.objInit ok q267 q61 q62 (by decide) (by first | exact Nat.le_of_ble_eq_true rfl | simp [Value.category, cat_rf]) dJ19_init_1 ?_
  refine Z.gets ok (fun U h => h.ss.2.2.1) q268 (Or.inl rfl) dJ19_init_4 ?_
  refine Z.if_eq (tgt := 25) ok dJ19_init_7 (by decide) (fun hc => absurd hc (by decide)) (fun _ => ?_)
  refine Z.aload_n ok dJ19_init_10 rfl (by first | exact isRf.r _ | exact isRf.n | exact isRf.v _ | assumption) ?_
  refine Z.iload_n ok dJ19_init_11 rfl ?_
  refine Z.newB (N := 16) (kc' := 0) (ks' := 0) 8 ok q290 (by decide) (by decide) (by decide) (by omega) (by omega) dJ19_init_12 (fun a han haA => ?_)
  have hne : s ≠ a := fun e => by rw [e, han] at hw; cases hw
  have hF : FrS w (wset w a (eB g 16 (fun _ => 0)) 8) := FrS.set (Or.inl han)
  have hw1 : wset w a (eB g 16 (fun _ => 0)) 8 s = _ := (ws_n hne).trans hw
  generalize hW : wset w a (eB g 16 (fun _ => 0)) 8 = w1 at hF hw1
  have ha1 : w1 a = some (eB g 16 (fun _ => 0), 8) := by rw [← hW]; exact ws_s
  refine Z.put (ci := 10) (C := RJ20) (T := TJ20) (N := 4) (ty0 := tyJ20) ok (by first | assumption | exact ws_s | exact hT _ (by assumption) | (rw [ws_n (by assumption)]; assumption)) (by first | decide | assumption) rfl in_J20 tyJ20_ok nmJ20 0 (by decide) q277 (Or.inl rfl) rfl (okV_a (by first | exact isRf.r _ | exact isRf.n | exact isRf.v _ | assumption)) (by rfl) dJ19_init_14 ?_
  refine Z.aload_n ok dJ19_init_17 rfl (by first | exact isRf.r _ | exact isRf.n | exact isRf.v _ | assumption) ?_
  refine Z.iconst_0 ok dJ19_init_18 ?_
  refine Z.put (ci := 10) (C := RJ20) (T := TJ20) (N := 4) (ty0 := tyJ20) ok (by first | assumption | exact ws_s | exact hT _ (by assumption) | (rw [ws_n (by assumption)]; assumption)) (by first | decide | assumption) rfl in_J20 tyJ20_ok nmJ20 1 (by decide) q278 (Or.inl rfl) rfl (by exact ⟨rfl, rfl⟩) (by rfl) dJ19_init_19 ?_
  refine Z.goto (tgt := 38) ok dJ19_init_22 (by decide) ?_
  refine Z.vret ok hQ rfl dJ19_init_38 ?_
  refine ⟨rfl, ⟨a, fun _ => 0, ws_s, ?_, fun j hj => absurd hj (Nat.not_lt_zero _)⟩, hF.tr ((FrS.set (Or.inr (Or.inl ⟨_, hw1⟩))).tr (FrS.set (Or.inr (Or.inl ⟨_, ws_s⟩))))⟩
  exact (ws_n (Ne.symm hne)).trans ((ws_n (Ne.symm hne)).trans ha1)
theorem sbInit_ct {s : Nat} (hw : w s = some (ob 10 [.null, .int 0, .int 0, .int 0], 7)) : Ct g yJ20_init cJ20_init 1 none 2 1 16 [.ref s] w (fun v w' => v = none ∧ isSB g w' s [] ∧ FrS w w') noX := by
  refine Ct.of RJ20 "<init>" ⟨rfl, rfl⟩ (by decide +kernel) (by simp [Value.category] <;> exact cat_rf _) (Nat.le_of_ble_eq_true rfl) (fun x ok hQ hN => ?_)
  show Z g x 1 0 [some (.ref s)] [] w 1 16
  refine Z.aload_n ok dJ20_init_0 rfl (by first | exact isRf.r _ | exact isRf.n | exact isRf.v _ | assumption) ?_
  refine Z.bipush (v := 16) ok dJ20_init_1 (by decide) ?_
  refine Z.callI (kc' := 0) (ks' := 0) ok (sbInit0_ct hw) q264 q265 q43 q266 rfl nk_J19_init rfl (by decide) (by first | exact Nat.le_of_ble_eq_true rfl | simp [Value.category, cat_rf]) (by omega) (by omega) dJ20_init_3 rfl ZX.no (fun v w1 hp => ?_)
  obtain ⟨rfl, h1, h2⟩ := hp
  refine Z.vret ok hQ rfl dJ20_init_6 ?_
  exact ⟨rfl, h1, h2⟩
theorem coderK_ct {i : Nat} (hi : i < 3) : Ct g yJ14_coder cJ14_coder 1 (some .byte) 1 0 0 [.ref (gS g (3 + i))] w (PW (rI 0) w) noX := by
  refine Ct.of RJ14 "coder" ⟨rfl, rfl⟩ (by decide +kernel) (by simp [Value.category] <;> exact cat_rf _) (Nat.le_of_ble_eq_true rfl) (fun x ok hQ hN => ?_)
  show Z g x 1 0 [some (.ref (gS g (3 + i)))] [] w 0 0
  refine Z.gets ok (fun U h => h.ss.2.2.1) q377 (Or.inl rfl) dJ14_coder_0 ?_
  refine Z.if_eq (tgt := 13) ok dJ14_coder_3 (by decide) (fun hc => absurd hc (by decide)) (fun _ => ?_)
  refine Z.aload_n ok dJ14_coder_6 rfl (by first | exact isRf.r _ | exact isRf.n | exact isRf.v _ | assumption) ?_
  refine Z.kget ok (fun U h => (kS h hi).1) q562 (Or.inl rfl) dJ14_coder_7 ?_
  refine Z.goto (tgt := 14) ok dJ14_coder_10 (by decide) ?_
  refine Z.iret ok hQ (by first | rfl | exact bI_nar _) dJ14_coder_14 ?_
  exact ⟨rfl, rfl⟩
theorem lenK_ct {i : Nat} (hi : i < 3) : Ct g yJ14_length cJ14_length 1 (some .int) 2 0 0 [.ref (gS g (3 + i))] w (PW (rI (nI 1)) w) noX := by
  refine Ct.of RJ14 "length" ⟨rfl, rfl⟩ (by decide +kernel) (by simp [Value.category] <;> exact cat_rf _) (Nat.le_of_ble_eq_true rfl) (fun x ok hQ hN => ?_)
  show Z g x 1 0 [some (.ref (gS g (3 + i)))] [] w 0 0
  refine Z.aload_n ok dJ14_length_0 rfl (by first | exact isRf.r _ | exact isRf.n | exact isRf.v _ | assumption) ?_
  refine Z.kget ok (fun U h => (kS h hi).2.1) q561 (Or.inl rfl) dJ14_length_1 ?_
  refine Z.tlen ok (fun U h => (kS h hi).2.2) dJ14_length_4 ?_
  refine Z.aload_n ok dJ14_length_5 rfl (by first | exact isRf.r _ | exact isRf.n | exact isRf.v _ | assumption) ?_
  refine Z.callVk (i := i) ok (coderK_ct hi) hi rfl q373 q374 (Or.inl q375) q34 q376 nk_J14_coder rfl (by decide) (by first | exact Nat.le_of_ble_eq_true rfl | simp [Value.category, cat_rf]) (Nat.le_refl _) (Nat.le_refl _) dJ14_length_6 rfl ZX.no (fun v w1 hp => ?_)
  obtain ⟨rfl, rfl⟩ := hp
  refine Z.ishr ok dJ14_length_9 rfl ?_
  refine Z.iret ok hQ (by first | rfl | exact bI_nar _) dJ14_length_10 ?_
  exact ⟨by rw [sb_shr0], rfl⟩
theorem sbEnsure_ct {s n : Nat} {xs : List Nat} (h : isSB g w s xs) (hn : n ≤ 16) : Ct g yJ19_ensureCapacityInternal cJ19_ensureCapacityInternal 3 none 1 0 0 [.ref s, .int (nI n)] w (PW none w) noX := by
  refine Ct.of RJ19 "ensureCapacityInternal" ⟨rfl, rfl⟩ (by decide +kernel) (by simp [Value.category] <;> exact cat_rf _) (Nat.le_of_ble_eq_true rfl) (fun x ok hQ hN => ?_)
  show Z g x 3 0 [some (.ref s), some (.int (nI n)), none] [] w 0 0
  obtain ⟨a, f, h1, h2, h3⟩ := h
  refine Z.aload_n ok dJ19_ensureCapacityInternal_0 rfl (by first | exact isRf.r _ | exact isRf.n | exact isRf.v _ | assumption) ?_
  refine Z.get (ci := 10) (C := RJ20) (T := TJ20) (N := 4) ok (by first | assumption | exact ws_s | exact hT _ (by assumption) | (rw [ws_n (by assumption)]; assumption)) rfl in_J20 0 (by decide) q277 (Or.inl rfl) (by rfl) dJ19_ensureCapacityInternal_1 ?_
  refine Z.alen (k0 := 2) ok h2 rfl dJ19_ensureCapacityInternal_4 ?_
  refine Z.aload_n ok dJ19_ensureCapacityInternal_5 rfl (by first | exact isRf.r _ | exact isRf.n | exact isRf.v _ | assumption) ?_
  refine Z.get (ci := 10) (C := RJ20) (T := TJ20) (N := 4) ok (by first | assumption | exact ws_s | exact hT _ (by assumption) | (rw [ws_n (by assumption)]; assumption)) rfl in_J20 1 (by decide) q278 (Or.inl rfl) (by rfl) dJ19_ensureCapacityInternal_6 ?_
  refine Z.ishr ok dJ19_ensureCapacityInternal_9 rfl ?_
  refine Z.istore_n (i := 2) ok dJ19_ensureCapacityInternal_10 rfl (by decide) ?_
  refine Z.iload_n ok dJ19_ensureCapacityInternal_11 rfl ?_
  refine Z.iload_n ok dJ19_ensureCapacityInternal_12 rfl ?_
  refine Z.isub ok dJ19_ensureCapacityInternal_13 ?_
  rw [sb_shr0]
  refine Z.if_le (tgt := 38) ok dJ19_ensureCapacityInternal_14 (by decide) (fun _ => ?_) (fun hc => absurd (by rw [Int32.le_iff_toInt_le, pk_sub_toInt (by omega) (by omega), Int32.toInt_zero]; omega) hc)
  refine Z.vret ok hQ rfl dJ19_ensureCapacityInternal_38 ?_
  exact ⟨rfl, rfl⟩
theorem sbLatin_ct {s : Nat} {xs : List Nat} (h : isSB g w s xs) : Ct g yJ19_isLatin1 cJ19_isLatin1 1 (some .boolean) 1 0 0 [.ref s] w (PW (rI 1) w) noX := by
  refine Ct.of RJ19 "isLatin1" ⟨rfl, rfl⟩ (by decide +kernel) (by simp [Value.category] <;> exact cat_rf _) (Nat.le_of_ble_eq_true rfl) (fun x ok hQ hN => ?_)
  show Z g x 1 0 [some (.ref s)] [] w 0 0
  obtain ⟨a, f, h1, h2, h3⟩ := h
  refine Z.gets ok (fun U h => h.ss.2.2.1) q268 (Or.inl rfl) dJ19_isLatin1_0 ?_
  refine Z.if_eq (tgt := 17) ok dJ19_isLatin1_3 (by decide) (fun hc => absurd hc (by decide)) (fun _ => ?_)
  refine Z.aload_n ok dJ19_isLatin1_6 rfl (by first | exact isRf.r _ | exact isRf.n | exact isRf.v _ | assumption) ?_
  refine Z.get (ci := 10) (C := RJ20) (T := TJ20) (N := 4) ok (by first | assumption | exact ws_s | exact hT _ (by assumption) | (rw [ws_n (by assumption)]; assumption)) rfl in_J20 1 (by decide) q278 (Or.inl rfl) (by rfl) dJ19_isLatin1_7 ?_
  refine Z.if_ne (tgt := 17) ok dJ19_isLatin1_10 (by decide) (fun hc => absurd (by rfl) hc) (fun _ => ?_)
  refine Z.iconst_1 ok dJ19_isLatin1_13 ?_
  refine Z.goto (tgt := 18) ok dJ19_isLatin1_14 (by decide) ?_
  refine Z.iret ok hQ (by first | rfl | exact bI_nar _) dJ19_isLatin1_18 ?_
  exact ⟨rfl, rfl⟩
theorem sbInflate_ct {s i : Nat} {xs : List Nat} (h : isSB g w s xs) (hi : i < 3) : Ct g yJ19_inflateIfNeededFor cJ19_inflateIfNeededFor 2 none 2 0 0 [.ref s, .ref (gS g (3 + i))] w (PW none w) noX := by
  refine Ct.of RJ19 "inflateIfNeededFor" ⟨rfl, rfl⟩ (by decide +kernel) (by simp [Value.category] <;> exact cat_rf _) (Nat.le_of_ble_eq_true rfl) (fun x ok hQ hN => ?_)
  show Z g x 2 0 [some (.ref s), some (.ref (gS g (3 + i)))] [] w 0 0
  obtain ⟨a, f, h1, h2, h3⟩ := h
  refine Z.gets ok (fun U h => h.ss.2.2.1) q268 (Or.inl rfl) dJ19_inflateIfNeededFor_0 ?_
  refine Z.if_eq (tgt := 21) ok dJ19_inflateIfNeededFor_3 (by decide) (fun hc => absurd hc (by decide)) (fun _ => ?_)
  refine Z.aload_n ok dJ19_inflateIfNeededFor_6 rfl (by first | exact isRf.r _ | exact isRf.n | exact isRf.v _ | assumption) ?_
  refine Z.get (ci := 10) (C := RJ20) (T := TJ20) (N := 4) ok (by first | assumption | exact ws_s | exact hT _ (by assumption) | (rw [ws_n (by assumption)]; assumption)) rfl in_J20 1 (by decide) q278 (Or.inl rfl) (by rfl) dJ19_inflateIfNeededFor_7 ?_
  refine Z.aload_n ok dJ19_inflateIfNeededFor_10 rfl (by first | exact isRf.r _ | exact isRf.n | exact isRf.v _ | assumption) ?_
  refine Z.callVk (i := i) ok (coderK_ct hi) hi rfl q386 q374 (Or.inl q375) q34 q376 nk_J14_coder rfl (by decide) (by first | exact Nat.le_of_ble_eq_true rfl | simp [Value.category, cat_rf]) (Nat.le_refl _) (Nat.le_refl _) dJ19_inflateIfNeededFor_11 rfl ZX.no (fun v w1 hp => ?_)
  obtain ⟨rfl, rfl⟩ := hp
  refine Z.icmp_eq (tgt := 21) ok dJ19_inflateIfNeededFor_14 (by decide) (fun _ => ?_) (fun hc => absurd (by rfl) hc)
  refine Z.vret ok hQ rfl dJ19_inflateIfNeededFor_21 ?_
  exact ⟨rfl, rfl⟩
abbrev fLit (i : Nat) : Nat → Int32 := fun j => (([[110], [58], [43]] : List (List Int32)).getD i []).getD j 0
theorem fLit_0 {i : Nat} (hi : i < 3) : fLit i 0 = nI (cLit i) := by
  rcases i with _ | _ | _ | i <;> first | rfl | omega
theorem getBytesK_ct {a i j : Nat} {f : Nat → Int32} (hi : i < 3) (ha : w a = some (eB g 16 f, 8)) (hj : j < 16) : Ct g yJ14_getBytes cJ14_getBytes 4 none 2 0 0 [.ref (gS g (3 + i)), .ref a, .int (nI j), .int 0] w (PW none (wset w a (eB g 16 (va_cpy (fLit i) f 0 j 1)) 8)) noX := by
  refine Ct.of RJ14 "getBytes" ⟨rfl, rfl⟩ (by decide +kernel) (by simp [Value.category] <;> exact cat_rf _) (Nat.le_of_ble_eq_true rfl) (fun x ok hQ hN => ?_)
  show Z g x 4 0 [some (.ref (gS g (3 + i))), some (.ref a), some (.int (nI j)), some (.int 0)] [] w 0 0
  refine Z.aload_n ok dJ14_getBytes_0 rfl (by first | exact isRf.r _ | exact isRf.n | exact isRf.v _ | assumption) ?_
  refine Z.callVk (i := i) ok (coderK_ct hi) hi rfl q373 q374 (Or.inl q375) q34 q376 nk_J14_coder rfl (by decide) (by first | exact Nat.le_of_ble_eq_true rfl | simp [Value.category, cat_rf]) (Nat.le_refl _) (Nat.le_refl _) dJ14_getBytes_1 rfl ZX.no (fun v w1 hp => ?_)
  obtain ⟨rfl, rfl⟩ := hp
  refine Z.iload_n ok dJ14_getBytes_4 rfl ?_
  refine Z.icmp_ne (tgt := 28) ok dJ14_getBytes_5 (by decide) (fun hc => absurd rfl hc) (fun _ => ?_)
  refine Z.aload_n ok dJ14_getBytes_8 rfl (by first | exact isRf.r _ | exact isRf.n | exact isRf.v _ | assumption) ?_
  refine Z.kget ok (fun U h => (kS h hi).2.1) q561 (Or.inl rfl) dJ14_getBytes_9 ?_
  refine Z.iconst_0 ok dJ14_getBytes_12 ?_
  refine Z.aload_n ok dJ14_getBytes_13 rfl (by first | exact isRf.r _ | exact isRf.n | exact isRf.v _ | assumption) ?_
  refine Z.iload_n ok dJ14_getBytes_14 rfl ?_
  refine Z.iload_n ok dJ14_getBytes_15 rfl ?_
  refine Z.ishl ok dJ14_getBytes_16 rfl ?_
  refine Z.aload_n ok dJ14_getBytes_17 rfl (by first | exact isRf.r _ | exact isRf.n | exact isRf.v _ | assumption) ?_
  refine Z.kget ok (fun U h => (kS h hi).2.1) q561 (Or.inl rfl) dJ14_getBytes_18 ?_
  refine Z.tlen ok (fun U h => (kS h hi).2.2) dJ14_getBytes_21 ?_
  rw [sb_shl0]
  have c1 : (nI 1).toNatClampNeg = 1 := rfl
  have c0 : (0 : Int32).toNatClampNeg = 0 := rfl
  refine Z.copyK (n0 := 1) (n1 := 16) (f := fLit i) (by decide) (nI_pos (by omega)) (by decide) (by decide) (by rw [c1, nI_clamp (by omega)]; omega) ok q410 q336 q337 q31 (fun U h => (kS h hi).2.2) ha (by decide) (by rw [c1]; intro k hk; rw [c0]; rcases i with _ | _ | _ | i <;> first | (have : k = 0 := by omega) <;> subst this <;> rfl | omega) (by decide) (by exact Nat.le_of_ble_eq_true rfl) dJ14_getBytes_22 ?_
  refine Z.goto (tgt := 43) ok dJ14_getBytes_25 (by decide) ?_
  refine Z.vret ok hQ rfl dJ14_getBytes_43 ?_
  exact ⟨rfl, by rw [c0, c1, nI_clamp (by omega)]⟩
theorem sbPutAt_ct {s i j a : Nat} {f : Nat → Int32} {xs : List Nat} (h : isSB g w s xs) (hi : i < 3) (hj : j < 16) (h1 : w s = some (ob 10 [.ref a, .int 0, .int 0, .int (nI xs.length)], 7)) (h2 : w a = some (eB g 16 f, 8)) : Ct g yJ19_putStringAt cJ19_putStringAt 3 none 3 0 0 [.ref s, .int (nI j), .ref (gS g (3 + i))] w (PW none (wset w a (eB g 16 (va_cpy (fLit i) f 0 j 1)) 8)) noX := by
  refine Ct.of RJ19 "putStringAt" ⟨rfl, rfl⟩ (by decide +kernel) (by simp [Value.category] <;> exact cat_rf _) (Nat.le_of_ble_eq_true rfl) (fun x ok hQ hN => ?_)
  show Z g x 3 0 [some (.ref s), some (.int (nI j)), some (.ref (gS g (3 + i)))] [] w 0 0
  refine Z.aload_n ok dJ19_putStringAt_0 rfl (by first | exact isRf.r _ | exact isRf.n | exact isRf.v _ | assumption) ?_
  refine Z.aload_n ok dJ19_putStringAt_1 rfl (by first | exact isRf.r _ | exact isRf.n | exact isRf.v _ | assumption) ?_
  refine Z.callV (ci := 10) (q := (RJ20, TJ20, 4)) (C := RJ20) ok (sbInflate_ct h hi) (by first | assumption | exact ws_s | exact hT _ (by assumption) | (rw [ws_n (by assumption)]; assumption)) rfl rfl q382 q384 (Or.inr lw_ex_2) q43 q385 nk_J19_inflateIfNeededFor rfl (by decide) (by first | exact Nat.le_of_ble_eq_true rfl | simp [Value.category, cat_rf]) (Nat.le_refl _) (Nat.le_refl _) dJ19_putStringAt_2 rfl ZX.no (fun v w1 hp => ?_)
  obtain ⟨rfl, rfl⟩ := hp
  refine Z.aload_n ok dJ19_putStringAt_5 rfl (by first | exact isRf.r _ | exact isRf.n | exact isRf.v _ | assumption) ?_
  refine Z.aload_n ok dJ19_putStringAt_6 rfl (by first | exact isRf.r _ | exact isRf.n | exact isRf.v _ | assumption) ?_
  refine Z.get (ci := 10) (C := RJ20) (T := TJ20) (N := 4) ok (by first | assumption | exact ws_s | exact hT _ (by assumption) | (rw [ws_n (by assumption)]; assumption)) rfl in_J20 0 (by decide) q277 (Or.inl rfl) (by rfl) dJ19_putStringAt_7 ?_
  refine Z.iload_n ok dJ19_putStringAt_10 rfl ?_
  refine Z.aload_n ok dJ19_putStringAt_11 rfl (by first | exact isRf.r _ | exact isRf.n | exact isRf.v _ | assumption) ?_
  refine Z.get (ci := 10) (C := RJ20) (T := TJ20) (N := 4) ok (by first | assumption | exact ws_s | exact hT _ (by assumption) | (rw [ws_n (by assumption)]; assumption)) rfl in_J20 1 (by decide) q278 (Or.inl rfl) (by rfl) dJ19_putStringAt_12 ?_
  refine Z.callVk (i := i) ok (getBytesK_ct hi h2 hj) hi rfl q406 q407 (Or.inl q408) q34 q409 nk_J14_getBytes rfl (by decide) (by first | exact Nat.le_of_ble_eq_true rfl | simp [Value.category, cat_rf]) (Nat.le_refl _) (Nat.le_refl _) dJ19_putStringAt_15 rfl ZX.no (fun v w1 hp => ?_)
  obtain ⟨rfl, rfl⟩ := hp
  refine Z.vret ok hQ rfl dJ19_putStringAt_18 ?_
  exact ⟨rfl, rfl⟩
theorem isSB.up {s a n : Nat} {f' : Nat → Int32} {xs ys : List Nat} {w : Wd} (h1 : w s = some (ob 10 [.ref a, .int 0, .int 0, .int (nI xs.length)], 7)) (h2 : w a = some (eB g 16 f', 8)) (h3 : ∀ j, j < xs.length → f' j = nI (xs.getD j 0)) (h4 : ∀ j, j < ys.length → f' (xs.length + j) = nI (ys.getD j 0)) (hn : n = (xs ++ ys).length) : isSB g (wset w s (ob 10 [.ref a, .int 0, .int 0, .int (nI n)]) 7) s (xs ++ ys) := by
  subst hn
  have hne : a ≠ s := fun e => by rw [e, h1] at h2; cases h2
  refine ⟨a, f', ws_s, (ws_n hne).trans h2, fun j hj => ?_⟩
  rw [List.length_append] at hj
  by_cases h : j < xs.length
  · rw [h3 j h]
    congr 1
    simp [List.getD_eq_getElem?_getD, List.getElem?_append_left h]
  · have := h4 (j - xs.length) (by omega)
    rw [show xs.length + (j - xs.length) = j by omega] at this
    rw [this]
    congr 1
    simp [List.getD_eq_getElem?_getD, List.getElem?_append_right (Nat.not_lt.mp h)]
theorem sbLit0_ct {s i : Nat} {xs : List Nat} (h : isSB g w s xs) (hi : i < 3) (hx : xs.length < 16) : Ct g yJ19_append cJ19_append 3 (some (.object "java/lang/AbstractStringBuilder")) 4 0 0 [.ref s, .ref (gS g (3 + i))] w (fun v w' => v = some (.ref s) ∧ isSB g w' s (xs ++ [cLit i]) ∧ FrS w w') noX := by
  refine Ct.of RJ19 "append" ⟨rfl, rfl⟩ (by decide +kernel) (by simp [Value.category] <;> exact cat_rf _) (Nat.le_of_ble_eq_true rfl) (fun x ok hQ hN => ?_)
  show Z g x 3 0 [some (.ref s), some (.ref (gS g (3 + i))), none] [] w 0 0
  have h0 := h
  obtain ⟨a, f, h1, h2, h3⟩ := h
  refine Z.aload_n ok dJ19_append_0 rfl (by first | exact isRf.r _ | exact isRf.n | exact isRf.v _ | assumption) ?_
  refine Z.ifnonnullR (tgt := 9) ok dJ19_append_1 (by decide) ?_
  refine Z.aload_n ok dJ19_append_9 rfl (by first | exact isRf.r _ | exact isRf.n | exact isRf.v _ | assumption) ?_
  refine Z.callVk (i := i) ok (lenK_ct hi) hi rfl q369 q370 (Or.inl q371) q34 q372 nk_J14_length rfl (by decide) (by first | exact Nat.le_of_ble_eq_true rfl | simp [Value.category, cat_rf]) (Nat.le_refl _) (Nat.le_refl _) dJ19_append_10 rfl ZX.no (fun v w1 hp => ?_)
  obtain ⟨rfl, rfl⟩ := hp
  refine Z.istore_n (i := 2) ok dJ19_append_13 rfl (by decide) ?_
  refine Z.aload_n ok dJ19_append_14 rfl (by first | exact isRf.r _ | exact isRf.n | exact isRf.v _ | assumption) ?_
  refine Z.aload_n ok dJ19_append_15 rfl (by first | exact isRf.r _ | exact isRf.n | exact isRf.v _ | assumption) ?_
  refine Z.get (ci := 10) (C := RJ20) (T := TJ20) (N := 4) ok (by first | assumption | exact ws_s | exact hT _ (by assumption) | (rw [ws_n (by assumption)]; assumption)) rfl in_J20 3 (by decide) q280 (Or.inl rfl) (by rfl) dJ19_append_16 ?_
  refine Z.iload_n ok dJ19_append_19 rfl ?_
  refine Z.iadd ok dJ19_append_20 ?_
  rw [nI_add]
  refine Z.callV (ci := 10) (q := (RJ20, TJ20, 4)) (C := RJ20) ok (sbEnsure_ct h0 (n := xs.length + 1) (by omega)) (by first | assumption | exact ws_s | exact hT _ (by assumption) | (rw [ws_n (by assumption)]; assumption)) rfl rfl q303 q305 (Or.inr lw_ex_0) q43 q306 nk_J19_ensureCapacityInternal rfl (by decide) (by first | exact Nat.le_of_ble_eq_true rfl | simp [Value.category, cat_rf]) (Nat.le_refl _) (Nat.le_refl _) dJ19_append_21 rfl ZX.no (fun v w1 hp => ?_)
  obtain ⟨rfl, rfl⟩ := hp
  refine Z.aload_n ok dJ19_append_24 rfl (by first | exact isRf.r _ | exact isRf.n | exact isRf.v _ | assumption) ?_
  refine Z.aload_n ok dJ19_append_25 rfl (by first | exact isRf.r _ | exact isRf.n | exact isRf.v _ | assumption) ?_
  refine Z.get (ci := 10) (C := RJ20) (T := TJ20) (N := 4) ok (by first | assumption | exact ws_s | exact hT _ (by assumption) | (rw [ws_n (by assumption)]; assumption)) rfl in_J20 3 (by decide) q280 (Or.inl rfl) (by rfl) dJ19_append_26 ?_
  refine Z.aload_n ok dJ19_append_29 rfl (by first | exact isRf.r _ | exact isRf.n | exact isRf.v _ | assumption) ?_
  refine Z.callV (ci := 10) (q := (RJ20, TJ20, 4)) (C := RJ20) ok (sbPutAt_ct h0 hi hx h1 h2) (by first | assumption | exact ws_s | exact hT _ (by assumption) | (rw [ws_n (by assumption)]; assumption)) rfl rfl q378 q380 (Or.inr lw_ex_1) q43 q381 nk_J19_putStringAt rfl (by decide) (by first | exact Nat.le_of_ble_eq_true rfl | simp [Value.category, cat_rf]) (Nat.le_refl _) (Nat.le_refl _) dJ19_append_30 rfl ZX.no (fun v w2 hp => ?_)
  obtain ⟨rfl, rfl⟩ := hp
  have hne : s ≠ a := fun e => by rw [← e, h1] at h2; cases h2
  have hF : FrS w (wset w a (eB g 16 (va_cpy (fLit i) f 0 xs.length 1)) 8) := FrS.set (Or.inr (Or.inr ⟨_, h2⟩))
  have hw1 : wset w a (eB g 16 (va_cpy (fLit i) f 0 xs.length 1)) 8 s = _ := (ws_n hne).trans h1
  generalize hW : wset w a (eB g 16 (va_cpy (fLit i) f 0 xs.length 1)) 8 = w1 at hF hw1
  have ha1 : w1 a = some (eB g 16 (va_cpy (fLit i) f 0 xs.length 1), 8) := by rw [← hW]; exact ws_s
  refine Z.aload_n ok dJ19_append_33 rfl (by first | exact isRf.r _ | exact isRf.n | exact isRf.v _ | assumption) ?_
  refine Z.dup ok dJ19_append_34 (by first | rfl | exact cat_rf _) ?_
  refine Z.get (ci := 10) (C := RJ20) (T := TJ20) (N := 4) ok (by first | assumption | exact ws_s | exact hT _ (by assumption) | (rw [ws_n (by assumption)]; assumption)) rfl in_J20 3 (by decide) q280 (Or.inl rfl) (by rfl) dJ19_append_35 ?_
  refine Z.iload_n ok dJ19_append_38 rfl ?_
  refine Z.iadd ok dJ19_append_39 ?_
  refine Z.put (ci := 10) (C := RJ20) (T := TJ20) (N := 4) (ty0 := tyJ20) ok (by first | assumption | exact ws_s | exact hT _ (by assumption) | (rw [ws_n (by assumption)]; assumption)) (by first | decide | assumption) rfl in_J20 tyJ20_ok nmJ20 3 (by decide) q280 (Or.inl rfl) rfl (okV_i _) (by rfl) dJ19_append_40 ?_
  refine Z.aload_n ok dJ19_append_43 rfl (by first | exact isRf.r _ | exact isRf.n | exact isRf.v _ | assumption) ?_
  refine Z.aret ok hQ (by first | exact Or.inl ⟨_, rfl⟩ | exact Or.inr ⟨_, rfl⟩) (by first | exact isRf.r _ | exact isRf.n | exact isRf.v _ | assumption) dJ19_append_44 ?_
  refine ⟨rfl, ?_, hF.tr (FrS.set (Or.inr (Or.inl ⟨_, hw1⟩)))⟩
  rw [nI_add]
  refine isSB.up (ys := [cLit i]) (n := xs.length + 1) hw1 ha1 (fun j hj => ?_) (fun j hj => ?_) (by simp)
  · rw [pk_cpy_out (Or.inl hj)]
    exact h3 j hj
  · simp at hj
    subst hj
    rw [pk_cpy_in (by omega) (by omega)]
    simp
    exact fLit_0 hi
theorem sbLit_ct {s i : Nat} {xs : List Nat} (h : isSB g w s xs) (hi : i < 3) (hx : xs.length < 16) : Ct g yJ20_append cJ20_append 2 (some (.object "java/lang/StringBuilder")) 5 0 0 [.ref s, .ref (gS g (3 + i))] w (fun v w' => v = some (.ref s) ∧ isSB g w' s (xs ++ [cLit i]) ∧ FrS w w') noX := by
  refine Ct.of RJ20 "append" ⟨rfl, rfl⟩ (by decide +kernel) (by simp [Value.category] <;> exact cat_rf _) (Nat.le_of_ble_eq_true rfl) (fun x ok hQ hN => ?_)
  show Z g x 2 0 [some (.ref s), some (.ref (gS g (3 + i)))] [] w 0 0
  obtain ⟨a, f, h1, h2, h3⟩ := id h
  refine Z.aload_n ok dJ20_append_0 rfl (by first | exact isRf.r _ | exact isRf.n | exact isRf.v _ | assumption) ?_
  refine Z.aload_n ok dJ20_append_1 rfl (by first | exact isRf.r _ | exact isRf.n | exact isRf.v _ | assumption) ?_
  refine Z.callSU (ci := 10) (q := (RJ20, TJ20, 4)) ok (sbLit0_ct h hi hx) (by first | assumption | exact ws_s | exact hT _ (by assumption) | (rw [ws_n (by assumption)]; assumption)) rfl q296 q1626 q289 q297 q43 q298 (by decide) nk_J19_append rfl (by decide) (by first | exact Nat.le_of_ble_eq_true rfl | simp [Value.category, cat_rf]) (Nat.le_refl _) (Nat.le_refl _) dJ20_append_2 rfl ZX.no (fun v w1 hp => ?_)
  obtain ⟨rfl, a1, a2⟩ := hp
  refine Z.pop ok dJ20_append_5 (by first | rfl | exact cat_rf _) ?_
  refine Z.aload_n ok dJ20_append_6 rfl (by first | exact isRf.r _ | exact isRf.n | exact isRf.v _ | assumption) ?_
  refine Z.aret ok hQ (by first | exact Or.inl ⟨_, rfl⟩ | exact Or.inr ⟨_, rfl⟩) (by first | exact isRf.r _ | exact isRf.n | exact isRf.v _ | assumption) dJ20_append_7 ?_
  exact ⟨rfl, a1, a2⟩
end STR
