/-! ===== ALERTINDEX: what changes but questions' counts, the draft, the minute; set, drop, setQuiet ===== -/
def FrD (w w' : Wd) : Prop := (∀ b y t, w b = some (y, t) → t ≠ 10 → t ≠ 11 → t ≠ 14 → w' b = some (y, t)) ∧ ∀ b l fs, w b = some (ob 2 (.ref l :: fs), 14) → ∃ fs', w' b = some (ob 2 (.ref l :: fs'), 14)
theorem FrD.rf {w : Wd} : FrD w w := ⟨fun _ _ _ h _ _ _ => h, fun _ _ fs h => ⟨fs, h⟩⟩
theorem FrD.tr {w w1 w2 : Wd} (h1 : FrD w w1) (h2 : FrD w1 w2) : FrD w w2 := ⟨fun b y t h a1 a2 a3 => h2.1 b y t (h1.1 b y t h a1 a2 a3) a1 a2 a3, fun b l fs h => by
  obtain ⟨fs1, h3⟩ := h1.2 b l fs h
  exact h2.2 b l fs1 h3⟩
theorem FrD.one {w w' : Wd} {q t0 : Nat} {e : va_E} (hq : w q = some (e, t0)) (ht : t0 = 10 ∨ t0 = 11 ∨ t0 = 14) (h : ∀ b, b ≠ q → w' b = w b) (hk : ∀ l fs, (e, t0) = (ob 2 (.ref l :: fs), 14) → ∃ fs', w' q = some (ob 2 (.ref l :: fs'), 14)) : FrD w w' := ⟨fun b y t hb h1 h2 h3 => by
  rw [h b (fun z => by rw [z, hq] at hb; cases hb; rcases ht with z | z | z <;> contradiction)]
  exact hb, fun b l fs hb => by
  by_cases z : b = q
  · rw [z, hq] at hb
    rw [z]
    exact hk l fs (Option.some.inj hb)
  · exact ⟨fs, (h b z).trans hb⟩⟩
def StS (S S' : St) : Prop := S' 2 = S 2 ∧ S' 5 = S 5 ∧ S' 10 = S 10 ∧ S' 11 = S 11 ∧ S' 12 = S 12 ∧ S' 13 = S 13 ∧ S' 14 = S 14
theorem StS.rf {S : St} : StS S S := ⟨rfl, rfl, rfl, rfl, rfl, rfl, rfl⟩
theorem StS.up {S : St} {k j : Nat} {v : Int32} (hk : k = 1 ∨ k = 3 ∨ k = 4 ∨ k = 6 ∨ k = 7 ∨ k = 8 ∨ k = 9) : StS S (up2 S k j v) := by
  have h : ∀ a, a ≠ k → up2 S k j v a = S a := fun a ha => by funext b; exact up2_k ha
  exact ⟨h 2 (by omega), h 5 (by omega), h 10 (by omega), h 11 (by omega), h 12 (by omega), h 13 (by omega), h 14 (by omega)⟩
section DYN
variable {g : Gx} {w w' : Wd} {S S' : St}
theorem isRng.mono {k r : Nat} (h : isRng w S k r) (hF : FrD w w') (hS : StS S S') : isRng w' S' k r := by
  unfold isRng at h ⊢
  rw [hS.2.2.2.1, hS.2.2.2.2.1, hS.2.2.2.2.2.1]
  exact hF.1 _ _ _ h (by decide) (by decide) (by decide)
theorem isTst.mono {k t : Nat} (h : isTst w S k t) (hF : FrD w w') (hS : StS S S') : isTst w' S' k t := by
  unfold isTst
  rw [hS.2.2.2.2.2.2]
  rcases h with ⟨a, h⟩ | ⟨a, r, h1, h2⟩
  · exact Or.inl ⟨a, h.mono hF hS⟩
  · exact Or.inr ⟨a, r, hF.1 _ _ _ h1 (by decide) (by decide) (by decide), h2.mono hF hS⟩
theorem isL.frD {l tl : Nat} {xs : List Nat} (h : isL g w l tl xs) (hF : FrD w w') (ht : tl ≠ 10 ∧ tl ≠ 11 ∧ tl ≠ 14) : isL g w' l tl xs := by
  obtain ⟨fs, hlo⟩ := h.obj
  refine h.kept (fun b y t hb hc => ?_)
  rcases hc with rfl | rfl
  · rw [hlo] at hb
    cases hb
    exact hF.1 _ _ _ hlo ht.1 ht.2.1 ht.2.2
  · exact hF.1 _ _ _ hb (by omega) (by omega) (by omega)
theorem isPrd.mono {i p : Nat} (h : isPrd g w S i p) (hF : FrD w w') (hS : StS S S') : isPrd g w' S' i p := by
  obtain ⟨l, ts, fd, h1, h2, h3, h4, h5⟩ := h
  have e : nt S' i = nt S i := by unfold nt; rw [hS.2.2.1]
  exact ⟨l, ts, fd, hF.1 _ _ _ h1 (by decide) (by decide) (by decide), h2.frD hF (by decide), by rw [e]; exact h3, by rw [e]; exact h4, fun k t hk => (h5 k t hk).mono hF hS⟩
/-- the class's object after such a change -/
theorem isAb.dyn {a lq d mm li : Nat} {qs : List Nat} (hA : isAb g w a S lq d mm li qs) (hF : FrD w w') (hS : StS S S') (ha' : w' a = some (ob 0 [.ref lq, .ref d, .ref mm, .ref li, .int (S' 1 0)], 10)) (hd' : w' d = some (eI g 6 (S' 3), 11)) (hq' : ∀ j q l, qs[j]? = some q → w q = some (ob 2 [.ref l, .int (S 4 j), .int (S 6 j), .int (S 7 j), .int (S 8 j), .int (S 9 j)], 14) → w' q = some (ob 2 [.ref l, .int (S' 4 j), .int (S' 6 j), .int (S' 7 j), .int (S' 8 j), .int (S' 9 j)], 14)) : isAb g w' a S' lq d mm li qs := by
  obtain ⟨h1, h2, h3, h4, h5⟩ := hA
  refine ⟨ha', hd', h3.frD hF (by decide), ?_, fun j q hj => ?_⟩
  · rw [h4]
    unfold nq
    rw [hS.1]
  · obtain ⟨ps, l, q1, q2, q3, q4, q5⟩ := h5 j q hj
    have e : np S' j = np S j := by unfold np; rw [hS.2.1]
    exact ⟨ps, l, hq' j q l hj q1, q2.frD hF (by decide), by rw [e]; exact q3, by rw [e]; exact q4, fun k p hk => (q5 k p hk).mono hF hS⟩
theorem isAb.nm {a lq d mm li : Nat} {qs : List Nat} (hA : isAb g w a S lq d mm li qs) : a ≠ d ∧ ∀ (j q : Nat), qs[j]? = some q → q ≠ a ∧ q ≠ d := by
  obtain ⟨h1, h2, h3, h4, h5⟩ := hA
  refine ⟨fun z => (by rw [z, h2] at h1; cases h1), fun j q hj => ?_⟩
  obtain ⟨ps, l, q1, -⟩ := h5 j q hj
  exact ⟨fun z => (by rw [z, h1] at q1; cases q1), fun z => (by rw [z, h2] at q1; cases q1)⟩
theorem ex_in (k : Int32) : exB k 6 = inB k 0 5 := by
  unfold exB inB
  congr 1
  apply decide_eq_decide.mpr
  rw [i32lt, i32le]
  have e1 : (6 : Int32).toInt = 6 := by decide
  have e2 : (5 : Int32).toInt = 5 := by decide
  rw [e1, e2]
  omega
theorem set_ctA {a lq d mm li : Nat} {qs : List Nat} (hA : isAb g w a S lq d mm li qs) (nm v : Int32) : Ct g yX1_set cX1_set 4 (some .int) 2 2 12 [.ref a, .int nm, .int v] w (fun o w' => setK nm v = 0 ∧ o = rI (S 3 (qN nm)) ∧ isAb g w' a (up2 S 3 (qN nm) v) lq d mm li qs ∧ FrD w w') (fun E w' => w = w' ∧ ((E = cIOB ∧ setK nm v = 1) ∨ (E = cIAE ∧ setK nm v = 2))) := by
  refine Ct.of RX1 "set" ⟨rfl, rfl⟩ (by decide +kernel) (by simp [Value.category] <;> exact cat_rf _) (Nat.le_of_ble_eq_true rfl) (fun x ok hQ hN => ?_)
  show Z g x 4 0 [some (.ref a), some (.int nm), some (.int v), none] [] w 2 12
  have hA0 := hA
  obtain ⟨ha, hd, -⟩ := hA
  refine Z.iload_n ok dX1_set_0 rfl ?_
  refine Z.bipush (v := 6) ok dX1_set_1 (by decide) ?_
  refine Z.callS (kc' := 1) (ks' := 6) ok (exists_ct nm 6) q1108 q1109 q16 q1110 nk_X1_exists rfl (by decide) (by first | exact Nat.le_of_ble_eq_true rfl | simp [Value.category, cat_rf]) (by omega) (by omega) dX1_set_3 rfl (fun E q w' h => ZX.out ok hQ ⟨h.2.1, Or.inl ⟨h.1, by have := h.2.2; rw [ex_in] at this; unfold setK; rw [this]; rfl⟩⟩) (fun v w1 hr => ?_)
  obtain ⟨rfl, rfl, h1⟩ := hr
  rw [ex_in] at h1
  refine Z.iload_n ok dX1_set_6 rfl ?_
  refine Z.iconst_m1 ok dX1_set_7 ?_
  refine Z.bipush (v := 63) ok dX1_set_8 (by decide) ?_
  refine Z.callS (kc' := 1) (ks' := 6) ok (isIn_ct v (-1) 63) q1153 q1154 q16 q1155 nk_X1_isIn rfl (by decide) (by first | exact Nat.le_of_ble_eq_true rfl | simp [Value.category, cat_rf]) (by omega) (by omega) dX1_set_10 rfl ZX.no (fun v w1 hr => ?_)
  obtain ⟨rfl, rfl⟩ := hr
  refine Z.callS (kc' := 0) (ks' := 0) ok (want_ct (inB v (-1) 63)) q1156 q1157 q16 q1158 nk_X1_want rfl (by decide) (by first | exact Nat.le_of_ble_eq_true rfl | simp [Value.category, cat_rf]) (by omega) (by omega) dX1_set_13 rfl (fun E q w' h => ZX.out ok hQ ⟨h.2.1, Or.inr ⟨h.1, by have := h.2.2; unfold setK; rw [h1, this]; rfl⟩⟩) (fun v w1 hr => ?_)
  obtain ⟨rfl, rfl, h2⟩ := hr
  obtain ⟨i, hi, rfl, e⟩ := inB_nI (n := 5) (by decide) h1
  refine Z.aload_n ok dX1_set_16 rfl (by first | exact isRf.r _ | exact isRf.n | exact isRf.v _ | assumption) ?_
  refine Z.get (ci := 0) (C := RX1) (T := TX1) (N := 5) ok (by first | assumption | exact ws_s | exact hT _ (by assumption) | (rw [ws_n (by assumption)]; assumption)) rfl in_X1 1 (by decide) q123 (Or.inl rfl) (by rfl) dX1_set_17 ?_
  refine Z.iload_n ok dX1_set_20 rfl ?_
  refine Z.iald ok hd (vp_in_nI (by omega) (by decide)) dX1_set_21 ?_
  rw [nI_clamp (by omega)]
  refine Z.istore_n (i := 3) ok dX1_set_22 rfl (by decide) ?_
  refine Z.aload_n ok dX1_set_23 rfl (by first | exact isRf.r _ | exact isRf.n | exact isRf.v _ | assumption) ?_
  refine Z.get (ci := 0) (C := RX1) (T := TX1) (N := 5) ok (by first | assumption | exact ws_s | exact hT _ (by assumption) | (rw [ws_n (by assumption)]; assumption)) rfl in_X1 1 (by decide) q123 (Or.inl rfl) (by rfl) dX1_set_24 ?_
  refine Z.iload_n ok dX1_set_27 rfl ?_
  refine Z.iload_n ok dX1_set_28 rfl ?_
  refine Z.iast ok hd (by decide) (vp_in_nI (by omega) (by decide)) dX1_set_29 ?_
  rw [nI_clamp (by omega)]
  refine Z.iload_n ok dX1_set_30 rfl ?_
  refine Z.iret ok hQ (by first | rfl | exact bI_nar _) dX1_set_31 ?_
  obtain ⟨n1, n2⟩ := hA0.nm
  have hF : FrD w (wset w d (eI g 6 (upd (S 3) i v)) 11) := FrD.one hd (by decide) (fun b hb => ws_n hb) (fun l fs h => by cases h)
  refine ⟨by unfold setK; rw [h1, h2]; rfl, by rw [e], ?_, hF⟩
  rw [e]
  refine hA0.dyn hF (StS.up (by decide)) ((ws_n n1).trans ha) ?_ (fun j q l hj hq => (ws_n (n2 j q hj).2).trans hq)
  rw [ws_s, up2_row]
theorem nd_get {qs : List Nat} (hnd : qs.Nodup) {i j q : Nat} (hi : qs[i]? = some q) (hj : qs[j]? = some q) : i = j := by
  exact (List.getElem?_inj (List.getElem?_eq_some_iff.mp hi).1 hnd).mp (hi.trans hj.symm)
/-- one question's own fields are changed -/
theorem isAb.q1 {a lq d mm li i q : Nat} {qs : List Nat} {l : Nat} (hA : isAb g w a S lq d mm li qs) (hnd : qs.Nodup) (hi : qs[i]? = some q) (hS : StS S S') (hqo : w q = some (ob 2 [.ref l, .int (S 4 i), .int (S 6 i), .int (S 7 i), .int (S 8 i), .int (S 9 i)], 14)) (hq' : w' q = some (ob 2 [.ref l, .int (S' 4 i), .int (S' 6 i), .int (S' 7 i), .int (S' 8 i), .int (S' 9 i)], 14)) (ho : ∀ b, b ≠ q → w' b = w b) (h1 : S' 1 0 = S 1 0) (h3 : S' 3 = S 3) (hr : ∀ j, j ≠ i → S' 4 j = S 4 j ∧ S' 6 j = S 6 j ∧ S' 7 j = S 7 j ∧ S' 8 j = S 8 j ∧ S' 9 j = S 9 j) : isAb g w' a S' lq d mm li qs ∧ FrD w w' := by
  have hF : FrD w w' := FrD.one hqo (by decide) ho (fun l fs h => by cases h; exact ⟨_, hq'⟩)
  obtain ⟨n1, n2⟩ := hA.nm
  obtain ⟨m1, m2⟩ := n2 i q hi
  refine ⟨hA.dyn hF hS ?_ ?_ (fun j q2 l2 hj hq2 => ?_), hF⟩
  · rw [ho a (Ne.symm m1), h1]
    exact hA.1
  · rw [ho d (Ne.symm m2), h3]
    exact hA.2.1
  · by_cases e : q2 = q
    · subst e
      have := nd_get hnd hi hj
      subst this
      rw [hqo] at hq2
      cases hq2
      exact hq'
    · have hji : j ≠ i := fun z => e (by rw [z, hi] at hj; exact (Option.some.inj hj).symm)
      obtain ⟨r1, r2, r3, r4, r5⟩ := hr j hji
      rw [ho q2 e, r1, r2, r3, r4, r5]
      exact hq2
theorem drop_ctA {a lq d mm li : Nat} {qs : List Nat} (hA : isAb g w a S lq d mm li qs) (hnd : qs.Nodup) (hI : InvA S) (qv : Int32) : Ct g yX1_drop cX1_drop 3 (some .int) 5 2 12 [.ref a, .int qv] w (fun o w' => isQ S qv = true ∧ o = rI (S 9 (qN qv)) ∧ isAb g w' a (up2 S 4 (qN qv) 1) lq d mm li qs ∧ FrD w w') (XX w cIOB (isQ S qv)) := by
  refine Ct.of RX1 "drop" ⟨rfl, rfl⟩ (by decide +kernel) (by simp [Value.category] <;> exact cat_rf _) (Nat.le_of_ble_eq_true rfl) (fun x ok hQ hN => ?_)
  show Z g x 3 0 [some (.ref a), some (.int qv), none] [] w 2 12
  have ha := hA.1
  have hqs := hA.2.2.2.2
  refine Z.aload_n ok dX1_drop_0 rfl (by first | exact isRf.r _ | exact isRf.n | exact isRf.v _ | assumption) ?_
  refine Z.iload_n ok dX1_drop_1 rfl ?_
  refine Z.callV (kc' := 0) (ks' := 0) (ci := 0) (q := (RX1, TX1, 5)) (C := RX1) ok (find_ctA hA hI qv) (by first | assumption | exact ws_s | exact hT _ (by assumption) | (rw [ws_n (by assumption)]; assumption)) rfl rfl q1104 q1106 (Or.inl qs5) q16 q1107 nk_X1_find rfl (by decide) (by first | exact Nat.le_of_ble_eq_true rfl | simp [Value.category, cat_rf]) (by omega) (by omega) dX1_drop_2 rfl (fun E q w' h => ZX.out ok hQ h) (fun v w1 hr => ?_)
  obtain ⟨rfl, hq, i, q, rfl, hi, hi20, h0, rfl, hgi⟩ := hr
  obtain ⟨ps, l, hqo, -⟩ := hqs i _ hgi
  have e : qN (nI i) = i := nI_clamp (by omega)
  refine Z.astore_n (i := 2) ok dX1_drop_5 rfl (by decide) (by first | exact isRf.r _ | exact isRf.n | exact isRf.v _ | assumption) ?_
  refine Z.aload_n ok dX1_drop_6 rfl (by first | exact isRf.r _ | exact isRf.n | exact isRf.v _ | assumption) ?_
  refine Z.iconst_1 ok dX1_drop_7 ?_
  refine Z.put (ci := 2) (C := RX3) (T := TX3) (N := 6) (ty0 := tyX3) ok hqo (by first | decide | assumption) rfl in_X3 tyX3_ok nmX3 1 (by decide) q1022 (Or.inl rfl) rfl (by first | exact okV_z0 | exact okV_z1) (by rfl) dX1_drop_8 ?_
  refine Z.aload_n ok dX1_drop_11 rfl (by first | exact isRf.r _ | exact isRf.n | exact isRf.v _ | assumption) ?_
  refine Z.get (ci := 2) (C := RX3) (T := TX3) (N := 6) ok (by first | assumption | exact ws_s | exact hT _ (by assumption) | (rw [ws_n (by assumption)]; assumption)) rfl in_X3 5 (by decide) q1030 (Or.inl rfl) (by rfl) dX1_drop_12 ?_
  refine Z.iret ok hQ (by first | rfl | exact bI_nar _) dX1_drop_15 ?_
  obtain ⟨r1, r2⟩ := hA.q1 (S' := up2 S 4 i 1) (w' := wset w q (ob 2 [.ref l, .int 1, .int (S 6 i), .int (S 7 i), .int (S 8 i), .int (S 9 i)]) 14) hnd hgi (StS.up (by decide)) hqo (by rw [ws_s, up2_s, up2_k (by decide), up2_k (by decide), up2_k (by decide), up2_k (by decide)]) (fun b hb => ws_n hb) (up2_k (by decide)) (by funext b; exact up2_k (by decide)) (fun j hj => ⟨up2_j hj, up2_k (by decide), up2_k (by decide), up2_k (by decide), up2_k (by decide)⟩)
  refine ⟨hq, by rw [e], ?_, r2⟩
  rw [e]
  exact r1
theorem setQuiet_ctA {a lq d mm li : Nat} {qs : List Nat} (hA : isAb g w a S lq d mm li qs) (hnd : qs.Nodup) (hI : InvA S) (qv mi : Int32) : Ct g yX1_setQuiet cX1_setQuiet 5 (some .int) 5 3 18 [.ref a, .int qv, .int mi] w (fun o w' => quietK S qv mi = 0 ∧ o = rI (S 6 (qN qv)) ∧ isAb g w' a (up2 S 6 (qN qv) mi) lq d mm li qs ∧ FrD w w') (fun E w' => w = w' ∧ ((E = cIOB ∧ quietK S qv mi = 1) ∨ (E = cIAE ∧ quietK S qv mi = 2))) := by
  refine Ct.of RX1 "setQuiet" ⟨rfl, rfl⟩ (by decide +kernel) (by simp [Value.category] <;> exact cat_rf _) (Nat.le_of_ble_eq_true rfl) (fun x ok hQ hN => ?_)
  show Z g x 5 0 [some (.ref a), some (.int qv), some (.int mi), none, none] [] w 3 18
  have ha := hA.1
  have hqs := hA.2.2.2.2
  refine Z.aload_n ok dX1_setQuiet_0 rfl (by first | exact isRf.r _ | exact isRf.n | exact isRf.v _ | assumption) ?_
  refine Z.iload_n ok dX1_setQuiet_1 rfl ?_
  refine Z.callV (kc' := 1) (ks' := 6) (ci := 0) (q := (RX1, TX1, 5)) (C := RX1) ok (find_ctA hA hI qv) (by first | assumption | exact ws_s | exact hT _ (by assumption) | (rw [ws_n (by assumption)]; assumption)) rfl rfl q1104 q1106 (Or.inl qs5) q16 q1107 nk_X1_find rfl (by decide) (by first | exact Nat.le_of_ble_eq_true rfl | simp [Value.category, cat_rf]) (by omega) (by omega) dX1_setQuiet_2 rfl (fun E q w' h => ZX.out ok hQ ⟨h.2.1, Or.inl ⟨h.1, by have := h.2.2; unfold quietK; rw [this]; rfl⟩⟩) (fun v w1 hr => ?_)
  obtain ⟨rfl, hq, i, q, rfl, hi, hi20, h0, rfl, hgi⟩ := hr
  obtain ⟨ps, l, hqo, -⟩ := hqs i _ hgi
  have e : qN (nI i) = i := nI_clamp (by omega)
  refine Z.astore_n (i := 3) ok dX1_setQuiet_5 rfl (by decide) (by first | exact isRf.r _ | exact isRf.n | exact isRf.v _ | assumption) ?_
  refine Z.iload_n ok dX1_setQuiet_6 rfl ?_
  refine Z.iconst_0 ok dX1_setQuiet_7 ?_
  refine Z.sipush (v := 1000) ok dX1_setQuiet_8 (by decide) ?_
  refine Z.callS (kc' := 1) (ks' := 6) ok (isIn_ct mi 0 1000) q1153 q1154 q16 q1155 nk_X1_isIn rfl (by decide) (by first | exact Nat.le_of_ble_eq_true rfl | simp [Value.category, cat_rf]) (by omega) (by omega) dX1_setQuiet_11 rfl ZX.no (fun v w1 hr => ?_)
  obtain ⟨rfl, rfl⟩ := hr
  refine Z.callS (kc' := 0) (ks' := 0) ok (want_ct (inB mi 0 1000)) q1156 q1157 q16 q1158 nk_X1_want rfl (by decide) (by first | exact Nat.le_of_ble_eq_true rfl | simp [Value.category, cat_rf]) (by omega) (by omega) dX1_setQuiet_14 rfl (fun E q w' h => ZX.out ok hQ ⟨h.2.1, Or.inr ⟨h.1, by have := h.2.2; unfold quietK; rw [hq, this]; rfl⟩⟩) (fun v w1 hr => ?_)
  obtain ⟨rfl, rfl, h2⟩ := hr
  refine Z.aload_n ok dX1_setQuiet_17 rfl (by first | exact isRf.r _ | exact isRf.n | exact isRf.v _ | assumption) ?_
  refine Z.get (ci := 2) (C := RX3) (T := TX3) (N := 6) ok hqo rfl in_X3 2 (by decide) q1024 (Or.inl rfl) (by rfl) dX1_setQuiet_18 ?_
  refine Z.istore ok dX1_setQuiet_21 (by decide) ?_
  refine Z.aload_n ok dX1_setQuiet_23 rfl (by first | exact isRf.r _ | exact isRf.n | exact isRf.v _ | assumption) ?_
  refine Z.iload_n ok dX1_setQuiet_24 rfl ?_
  refine Z.put (ci := 2) (C := RX3) (T := TX3) (N := 6) (ty0 := tyX3) ok hqo (by first | decide | assumption) rfl in_X3 tyX3_ok nmX3 2 (by decide) q1024 (Or.inl rfl) rfl (okV_i _) (by rfl) dX1_setQuiet_25 ?_
  refine Z.iload ok dX1_setQuiet_28 rfl ?_
  refine Z.iret ok hQ (by first | rfl | exact bI_nar _) dX1_setQuiet_30 ?_
  obtain ⟨r1, r2⟩ := hA.q1 (S' := up2 S 6 i mi) (w' := wset w q (ob 2 [.ref l, .int (S 4 i), .int mi, .int (S 7 i), .int (S 8 i), .int (S 9 i)]) 14) hnd hgi (StS.up (by decide)) hqo (by rw [ws_s, up2_s, up2_k (by decide), up2_k (by decide), up2_k (by decide), up2_k (by decide)]) (fun b hb => ws_n hb) (up2_k (by decide)) (by funext b; exact up2_k (by decide)) (fun j hj => ⟨up2_k (by decide), up2_j hj, up2_k (by decide), up2_k (by decide), up2_k (by decide)⟩)
  refine ⟨by unfold quietK; rw [hq, h2]; rfl, by rw [e], ?_, r2⟩
  rw [e]
  exact r1
end DYN
