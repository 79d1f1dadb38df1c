/-! ===== HASHMAP: putVal, hash, put ===== -/
theorem nk_ObjHash : NmOk "java/lang/Object" "()I" 0 := ⟨by decide +kernel, by decide +kernel, by decide +kernel⟩
section PUT3
variable {g : Gx} {w w0 : Wd} {m T e : Nat} {mc : Int32} {lf : UInt32} {f : Nat → Option Nat} {E : List Dt}
theorem pv_29 {x : Cx} {hh : Int32} {kk vv : Nat} {l7 l9 l10 l11 l12 : Option Value} (ok : OK g x RJ4 cJ4_putVal 13 8 (some (.object "java/lang/Object"))) (he4 : 4 ≤ e) (hcap : 2 ^ e ≤ 64 ∨ 3 * 2 ^ e ≤ 8 * E.length) (hthr : E.length ≤ 3 * 2 ^ (e - 2)) (hT : HT g w T e f E) (hm : w m = some (eM (.ref T) (nI E.length) mc (nI (3 * 2 ^ (e - 2))) lf, 4)) (hF : FrH w0 w) (hinj : (((hh, kk, vv) :: E).map (fun d => d.1)).Nodup) (hlen : E.length < 2 ^ 20) (kont : PvK g x w0 m mc lf (hh, kk, vv) E) : Z g x 13 29 [some (.ref m), some (.int hh), some (.ref kk), some (.ref vv), some (.int 0), some (.int 1), some (.ref T), l7, some (.int (nI (2 ^ e))), l9, l10, l11, l12] [] w (2 * E.length + 5) (18 * E.length + 104) := by
  have he := cap_lt hcap hlen
  have t1 := two_lt (e := e) (by omega)
  have hnew : ∀ d, d ∈ E → d.1 ≠ hh := by
    rw [List.map_cons, List.nodup_cons] at hinj
    exact fun d hd q => hinj.1 (List.mem_map.mpr ⟨d, hd, q⟩)
  obtain ⟨C, c1, c2⟩ := hT.2 (ix e hh) (ix_lt _ _)
  refine Z.aload ok dJ4_putVal_29 rfl (by first | exact isRf.r _ | exact isRf.n | exact isRf.v _ | assumption) ?_
  refine Z.iload ok dJ4_putVal_31 rfl ?_
  refine Z.iconst_1 ok dJ4_putVal_33 ?_
  refine Z.isub ok dJ4_putVal_34 ?_
  refine Z.iload_n ok dJ4_putVal_35 rfl ?_
  refine Z.iand ok dJ4_putVal_36 ?_
  rw [ix_mask (by omega)]
  refine Z.dup ok dJ4_putVal_37 (by first | rfl | exact cat_rf _) ?_
  refine Z.istore ok dJ4_putVal_38 (by decide) ?_
  refine Z.nald ok hT.1 (vp_in_nI (ix_lt _ _) (by omega)) dJ4_putVal_40 ?_
  rw [nI_clamp (Nat.lt_trans (ix_lt _ _) (by omega)), c1]
  refine Z.dup ok dJ4_putVal_41 (by first | rfl | exact cat_rf _) ?_
  refine Z.astore ok dJ4_putVal_42 (by decide) (by first | exact isRf.r _ | exact isRf.n | exact isRf.v _ | assumption) ?_
  cases C with
  | nil =>
    refine Z.ifnonnullN ok dJ4_putVal_44 ?_
    refine Z.aload ok dJ4_putVal_47 rfl (by first | exact isRf.r _ | exact isRf.n | exact isRf.v _ | assumption) ?_
    refine Z.iload ok dJ4_putVal_49 rfl ?_
    refine Z.aload_n ok dJ4_putVal_51 rfl (by first | exact isRf.r _ | exact isRf.n | exact isRf.v _ | assumption) ?_
    refine Z.iload_n ok dJ4_putVal_52 rfl ?_
    refine Z.aload_n ok dJ4_putVal_53 rfl (by first | exact isRf.r _ | exact isRf.n | exact isRf.v _ | assumption) ?_
    refine Z.aload_n ok dJ4_putVal_54 rfl (by first | exact isRf.r _ | exact isRf.n | exact isRf.v _ | assumption) ?_
    refine Z.null ok dJ4_putVal_55 ?_
    refine Z.callV (kc' := (2*E.length+4)) (ks' := (18*E.length+100)) (ci := 7) (q := (RJ4, TJ4, 8)) (C := RJ4) ok (newNode_ct (m := m) (nn := none)) hm rfl rfl q1307 q1308 (Or.inl q1309) q21 q1310 nk_J4_newNode rfl (by decide) (by first | exact Nat.le_of_ble_eq_true rfl | simp [Value.category, cat_rf]) (by omega) (by omega) dJ4_putVal_56 rfl ZX.no (fun v w1 hr => ?_)
    obtain ⟨q, rfl, hq, hq1, ho⟩ := hr
    have hTq : T ≠ q := fun z => by have := hT.1; rw [z, hq] at this; cases this
    refine Z.nast ok ((ho T hTq).trans hT.1) (by decide) hq1 rfl (Or.inl rfl) (vp_in_nI (ix_lt _ _) (by omega)) dJ4_putVal_59 ?_
    rw [nI_clamp (Nat.lt_trans (ix_lt _ _) (by omega))]
    have hF2 : ∀ b, b ∉ ([] : List Nat) → b ≠ T → w b ≠ none → wset w1 T (eN g (2 ^ e) (va_up f (ix e hh) (some q))) 5 b = w b := fun b _ h2 h3 => (ws_n h2).trans (ho b (fun z => h3 (by rw [z]; exact hq)))
    have hT2 : HT g (wset w1 T (eN g (2 ^ e) (va_up f (ix e hh) (some q))) 5) T e (va_up f (ix e hh) (some q)) ((hh, kk, vv) :: E) := by
      refine hT.ins (d := (hh, kk, vv)) c2 (C' := [q]) (Or.inl ⟨fun _ => hh, fun _ => kk, fun _ => vv, fun _ => none, fun a ha => ?_, ⟨rfl, trivial⟩, by simp, ?_⟩) ws_s (if_pos rfl) (fun i hi => if_neg hi) hF2
      · simp at ha
        subst ha
        exact (ws_n (Ne.symm hTq)).trans hq1
      · have hds : E.filter (inBk e (ix e hh)) = [] := List.eq_nil_of_length_eq_zero c2.len.symm
        rw [hds]
        exact List.Perm.refl _
    have hfr := frH_of_Bin c2 hT.1 hF2
    refine Z.goto (tgt := 259) ok dJ4_putVal_60 (by decide) ?_
    refine Z.room (kc' := E.length + 2) (ks' := 7 * E.length + 7) (by omega) (by omega) ?_
    exact kont _ T e _ _ _ _ _ _ _ _ _ _ _ _ he4 hcap hthr hT2 (hfr m _ _ hm (by decide)) (hF.tr (fun b y t hb _ h5 => hfr b y t hb h5))
  | cons c r =>
    refine Z.ifnonnullR (tgt := 63) ok dJ4_putVal_44 (by decide) ?_
    rcases id c2 with ⟨h, k, v, nx, hN, hseg, hnd, hp⟩ | ⟨h, k, v, nx, P, L, R, pv, rd, root, lo, hi, hTW, hseg, hsep, hnd, hp, H⟩
    · have tc : (fun a => a ∈ c :: r) c := by simp
      have hne : h c ≠ hh := dat_all (Q := fun d => d.1 ≠ hh) hp (fun d hd => hnew d (List.mem_filter.mp hd).1) c tc
      refine Z.aload ok dJ4_putVal_63 rfl (by first | exact isRf.r _ | exact isRf.n | exact isRf.v _ | assumption) ?_
      refine Z.get (ci := 8) (C := RJ26) (T := TJ26) (N := 4) ok (hN _ tc) rfl in_J26 0 (by decide) q1267 (Or.inl rfl) (by rfl) dJ4_putVal_65 ?_
      refine Z.iload_n ok dJ4_putVal_68 rfl ?_
      refine Z.icmp_ne (tgt := 104) ok dJ4_putVal_69 (by decide) (fun _ => ?_) (fun hc => absurd hc hne)
      refine Z.aload ok dJ4_putVal_104 rfl (by first | exact isRf.r _ | exact isRf.n | exact isRf.v _ | assumption) ?_
      refine Z.instNo (ci := 8) (q := (RJ26, TJ26, 4)) ok (hN _ tc) rfl (by decide +kernel) q710 dJ4_putVal_106 ?_
      refine Z.if_eq (tgt := 131) ok dJ4_putVal_109 (by decide) (fun _ => ?_) (fun hc => absurd rfl hc)
      refine Z.iconst_0 ok dJ4_putVal_131 ?_
      refine Z.istore ok dJ4_putVal_132 (by decide) ?_
      refine Z.room (kc' := 2 * E.length + 5) (ks' := 18 * E.length + 90) (by omega) (by omega) ?_
      exact pv_chain ok he4 hcap hthr hT hm hF hinj hlen hN hseg hnd hp c1 kont r c [] _ _ _ rfl
    · have tc : (fun a => a ∈ c :: r) c := by simp
      have hne : h c ≠ hh := dat_all (Q := fun d => d.1 ≠ hh) hp (fun d hd => hnew d (List.mem_filter.mp hd).1) c tc
      refine Z.aload ok dJ4_putVal_63 rfl (by first | exact isRf.r _ | exact isRf.n | exact isRf.v _ | assumption) ?_
      refine Z.get (ci := 9) (C := RJ28) (T := TJ28) (N := 11) ok (hTW _ tc) rfl in_J28 2 (by decide) q1267 (Or.inl rfl) (by rfl) dJ4_putVal_65 ?_
      refine Z.iload_n ok dJ4_putVal_68 rfl ?_
      refine Z.icmp_ne (tgt := 104) ok dJ4_putVal_69 (by decide) (fun _ => ?_) (fun hc => absurd hc hne)
      refine Z.aload ok dJ4_putVal_104 rfl (by first | exact isRf.r _ | exact isRf.n | exact isRf.v _ | assumption) ?_
      refine Z.instS (ci := 9) (q := (RJ28, TJ28, 11)) ok (hTW _ tc) rfl rfl q710 dJ4_putVal_106 ?_
      refine Z.if_eq (tgt := 131) ok dJ4_putVal_109 (by decide) (fun hc => absurd hc (by decide)) (fun _ => ?_)
      refine Z.aload ok dJ4_putVal_112 rfl (by first | exact isRf.r _ | exact isRf.n | exact isRf.v _ | assumption) ?_
      refine Z.castS (ci := 9) (q := (RJ28, TJ28, 11)) ok (hTW _ tc) rfl rfl q710 dJ4_putVal_114 ?_
      refine Z.aload_n ok dJ4_putVal_117 rfl (by first | exact isRf.r _ | exact isRf.n | exact isRf.v _ | assumption) ?_
      refine Z.aload ok dJ4_putVal_118 rfl (by first | exact isRf.r _ | exact isRf.n | exact isRf.v _ | assumption) ?_
      refine Z.iload_n ok dJ4_putVal_120 rfl ?_
      refine Z.aload_n ok dJ4_putVal_121 rfl (by first | exact isRf.r _ | exact isRf.n | exact isRf.v _ | assumption) ?_
      refine Z.aload_n ok dJ4_putVal_122 rfl (by first | exact isRf.r _ | exact isRf.n | exact isRf.v _ | assumption) ?_
      refine Z.callV (kc' := (2*E.length+4)) (ks' := (18*E.length+93)) (ci := 9) (q := (RJ28, TJ28, 11)) (C := RJ28) ok (ptv_ct (B := c :: r) (n := 2 ^ e) (i := ix e hh) hm (by decide) hT.1 t1 (ix_lt _ _) (ix_mask (by omega) hh) c1 hTW H hseg hsep hnd hp (fun d hd => by rw [ix_mask (by omega), of_decide_eq_true (List.mem_filter.mp hd).2]) (fun d hd => hnew d (List.mem_filter.mp hd).1) tc) (hTW _ tc) rfl rfl q1311 q1312 (Or.inl q1313) q54 q1314 nk_J28_putTreeVal rfl (by decide) (by first | exact Nat.le_of_ble_eq_true rfl | simp [Value.category, cat_rf]) (by omega) (by omega) dJ4_putVal_123 rfl ZX.no (fun v w1 hr => ?_)
      obtain ⟨rfl, C3, f3, r1, r2, r3, r4, r5, r6⟩ := hr
      refine Z.astore ok dJ4_putVal_126 (by decide) (by first | exact isRf.r _ | exact isRf.n | exact isRf.v _ | assumption) ?_
      refine Z.goto (tgt := 222) ok dJ4_putVal_128 (by decide) ?_
      refine Z.aload ok dJ4_putVal_222 rfl (by first | exact isRf.r _ | exact isRf.n | exact isRf.v _ | assumption) ?_
      refine Z.ifnullN (tgt := 259) ok dJ4_putVal_224 (by decide) ?_
      have hT2 : HT g w1 T e f3 ((hh, kk, vv) :: E) := hT.ins (d := (hh, kk, vv)) c2 (Or.inr r1) r3 r5 r4 r6
      have hfr := frH_of_Bin c2 hT.1 r6
      refine Z.room (kc' := E.length + 2) (ks' := 7 * E.length + 7) (by omega) (by omega) ?_
      exact kont w1 T e f3 _ _ _ _ _ _ _ _ _ _ _ he4 hcap hthr hT2 (hfr m _ _ hm (by decide)) (hF.tr (fun b y t hb _ h5 => hfr b y t hb h5))
theorem putVal_ct {kk vv : Nat} {hh : Int32} (hM : isHM g w m E) (hnew : ∀ d, d ∈ E → d.1 ≠ hh) (hlen : E.length < 2 ^ 20) : Ct g yJ4_putVal cJ4_putVal 13 (some (.object "java/lang/Object")) 8 (2*E.length+6) (18*E.length+120) [.ref m, .int hh, .ref kk, .ref vv, .int 0, .int 1] w (PvP g w m (hh, kk, vv) E) noX := by
  refine Ct.of RJ4 "putVal" ⟨rfl, rfl⟩ (by decide +kernel) (by simp [Value.category] <;> exact cat_rf _) (Nat.le_of_ble_eq_true rfl) (fun x ok hQ hN => ?_)
  show Z g x 13 0 [some (.ref m), some (.int hh), some (.ref kk), some (.ref vv), some (.int 0), some (.int 1), none, none, none, none, none, none, none] [] w (2*E.length+6) (18*E.length+120)
  obtain ⟨hinjE, mc, lf, hM⟩ := hM
  have hinj : (((hh, kk, vv) :: E).map (fun d => d.1)).Nodup := by
    rw [List.map_cons, List.nodup_cons]
    refine ⟨fun z => ?_, hinjE⟩
    obtain ⟨d, hd, ed⟩ := List.mem_map.mp z
    exact hnew d hd ed
  have kont : PvK g x w m mc lf (hh, kk, vv) E := fun w1 T e f l1 l2 l3 l4 l6 l7 l8 l9 l10 l11 l12 he4 hcap hthr hT hm hF => pv_end ok hQ he4 (by have := cap_lt hcap hlen; omega) hcap hthr hT hm hF hinj hlen
  rcases hM with ⟨rfl, hm⟩ | ⟨T, e, f, he4, hcap, hT, hm, hthr⟩
  · refine Z.aload_n ok dJ4_putVal_0 rfl (by first | exact isRf.r _ | exact isRf.n | exact isRf.v _ | assumption) ?_
    refine Z.get (ci := 7) (C := RJ4) (T := TJ4) (N := 8) ok (by first | assumption | exact ws_s | exact hT _ (by assumption) | (rw [ws_n (by assumption)]; assumption)) rfl in_J4 2 (by decide) q99 (Or.inl rfl) (by rfl) dJ4_putVal_1 ?_
    refine Z.dup ok dJ4_putVal_4 (by first | rfl | exact cat_rf _) ?_
    refine Z.astore ok dJ4_putVal_5 (by decide) (by first | exact isRf.r _ | exact isRf.n | exact isRf.v _ | assumption) ?_
    refine Z.ifnullN (tgt := 19) ok dJ4_putVal_7 (by decide) ?_
    refine Z.aload_n ok dJ4_putVal_19 rfl (by first | exact isRf.r _ | exact isRf.n | exact isRf.v _ | assumption) ?_
    refine Z.callV (kc' := 5) (ks' := 104) (ci := 7) (q := (RJ4, TJ4, 8)) (C := RJ4) ok (resize0_ct hm) (by first | assumption | exact ws_s | exact hT _ (by assumption) | (rw [ws_n (by assumption)]; assumption)) rfl rfl q1237 q1238 (Or.inl q1239) q21 q1240 nk_J4_resize rfl (by decide) (by first | exact Nat.le_of_ble_eq_true rfl | simp [Value.category, cat_rf]) (by omega) (by omega) dJ4_putVal_20 rfl ZX.no (fun v w1 hr => ?_)
    obtain ⟨T', f', rfl, r1, r2, r3⟩ := hr
    refine Z.dup ok dJ4_putVal_23 (by first | rfl | exact cat_rf _) ?_
    refine Z.astore ok dJ4_putVal_24 (by decide) (by first | exact isRf.r _ | exact isRf.n | exact isRf.v _ | assumption) ?_
    refine Z.alen (k0 := 5) ok r1.1 rfl dJ4_putVal_26 ?_
    refine Z.istore ok dJ4_putVal_27 (by decide) ?_
    exact pv_29 (E := []) ok (Nat.le_refl 4) (Or.inl (by decide)) (by decide) r1 r2 r3 hinj (by decide) kont
  · have he := cap_lt hcap hlen
    have t1 := two_lt (e := e) (by omega)
    have t0 := Nat.two_pow_pos e
    refine Z.aload_n ok dJ4_putVal_0 rfl (by first | exact isRf.r _ | exact isRf.n | exact isRf.v _ | assumption) ?_
    refine Z.get (ci := 7) (C := RJ4) (T := TJ4) (N := 8) ok (by first | assumption | exact ws_s | exact hT _ (by assumption) | (rw [ws_n (by assumption)]; assumption)) rfl in_J4 2 (by decide) q99 (Or.inl rfl) (by rfl) dJ4_putVal_1 ?_
    refine Z.dup ok dJ4_putVal_4 (by first | rfl | exact cat_rf _) ?_
    refine Z.astore ok dJ4_putVal_5 (by decide) (by first | exact isRf.r _ | exact isRf.n | exact isRf.v _ | assumption) ?_
    refine Z.ifnullR ok dJ4_putVal_7 ?_
    refine Z.aload ok dJ4_putVal_10 rfl (by first | exact isRf.r _ | exact isRf.n | exact isRf.v _ | assumption) ?_
    refine Z.alen (k0 := 5) ok hT.1 rfl dJ4_putVal_12 ?_
    refine Z.dup ok dJ4_putVal_13 (by first | rfl | exact cat_rf _) ?_
    refine Z.istore ok dJ4_putVal_14 (by decide) ?_
    refine Z.if_ne (tgt := 29) ok dJ4_putVal_16 (by decide) (fun _ => ?_) (fun hc => absurd hc (nI_ne0 (by omega) (by omega)))
    refine Z.room (kc' := 2 * E.length + 5) (ks' := 18 * E.length + 104) (by omega) (by omega) ?_
    exact pv_29 ok he4 hcap hthr hT hm FrH.rf hinj hlen kont
def hkey (xs : List Nat) : Int32 := hsI xs ^^^ ((hsI xs).toUInt32 >>> ((16 : Int32).toUInt32 &&& Int32.toUInt32 31)).toInt32
/-- a String that can be a key -/
def okS (xs : List Nat) : Prop := 1 < xs.length ∧ xs.length < 2 ^ 31 ∧ hsI xs ≠ 0
theorem hash_ct {a : Nat} {xs : List Nat} (h : isStr g w a xs) (hs : okS xs) : Ct g yJ4_hash cJ4_hash 2 (some .int) 5 0 0 [.ref a] w (fun r w' => r = rI (hkey xs) ∧ FrK g w w') noX := by
  refine Ct.of RJ4 "hash" ⟨rfl, rfl⟩ (by decide +kernel) (by simp [Value.category] <;> exact cat_rf _) (Nat.le_of_ble_eq_true rfl) (fun x ok hQ hN => ?_)
  show Z g x 2 0 [some (.ref a), none] [] w 0 0
  obtain ⟨_, _, _, ha, _⟩ := id h
  refine Z.aload_n ok dJ4_hash_0 rfl (by first | exact isRf.r _ | exact isRf.n | exact isRf.v _ | assumption) ?_
  refine Z.ifnonnullR (tgt := 8) ok dJ4_hash_1 (by decide) ?_
  refine Z.aload_n ok dJ4_hash_8 rfl (by first | exact isRf.r _ | exact isRf.n | exact isRf.v _ | assumption) ?_
  refine Z.callUD (ci := 11) (q := (RJ14, TJ14, 4)) (C := RJ14) (owner := "java/lang/Object") ok (strHash_ct h hs.1 hs.2.1 hs.2.2) (by first | assumption | exact ws_s | exact hT _ (by assumption) | (rw [ws_n (by assumption)]; assumption)) rfl rfl q592 q594 q591 q606 (Or.inl q673) q34 q607 nk_ObjHash rfl (by decide) (by first | exact Nat.le_of_ble_eq_true rfl | simp [Value.category, cat_rf]) (Nat.le_refl _) (Nat.le_refl _) dJ4_hash_9 rfl ZX.no (fun v w1 hr => ?_)
  obtain ⟨rfl, hF⟩ := hr
  refine Z.dup ok dJ4_hash_12 (by first | rfl | exact cat_rf _) ?_
  refine Z.istore_n (i := 1) ok dJ4_hash_13 rfl (by decide) ?_
  refine Z.iload_n ok dJ4_hash_14 rfl ?_
  refine Z.bipush (v := 16) ok dJ4_hash_15 (by decide) ?_
  refine Z.iushr ok dJ4_hash_17 rfl ?_
  refine Z.ixor ok dJ4_hash_18 ?_
  refine Z.iret ok hQ rfl dJ4_hash_19 ?_
  exact ⟨rfl, hF⟩
theorem isHM.keep {w' : Wd} (h : isHM g w m E) (hF : ∀ b y t, w b = some (y, t) → t = 4 ∨ t = 5 → w' b = some (y, t)) : isHM g w' m E := by
  obtain ⟨h1, mc, lf, h2⟩ := h
  refine ⟨h1, mc, lf, ?_⟩
  rcases h2 with ⟨e1, hm⟩ | ⟨T, e, f, he4, hcap, hT, hm, hthr⟩
  · exact Or.inl ⟨e1, hF _ _ _ hm (Or.inl rfl)⟩
  · refine Or.inr ⟨T, e, f, he4, hcap, ⟨hF _ _ _ hT.1 (Or.inr rfl), fun i hi => ?_⟩, hF _ _ _ hm (Or.inl rfl), hthr⟩
    obtain ⟨C, c1, c2⟩ := hT.2 i hi
    refine ⟨C, c1, c2.keep (fun b hb => ?_)⟩
    obtain ⟨d, -, hn⟩ := c2.nd hb
    rcases hn with ⟨_, hn⟩ | ⟨_, _, _, hn⟩ <;> rw [hn] <;> exact hF _ _ _ hn (Or.inr rfl)
theorem FrH.str {w' : Wd} (h : FrH w w') {a : Nat} {xs : List Nat} (hs : isStr g w a xs) : isStr g w' a xs := by
  obtain ⟨v, f, h0, k1, k2, k3⟩ := hs
  exact ⟨v, f, h0, h _ _ _ k1 (by decide) (by decide), h _ _ _ k2 (by decide) (by decide), k3⟩
/-- what put and get leave as it is -/
def FrP (g : Gx) (w w' : Wd) : Prop := (∀ b y t, w b = some (y, t) → t ≠ 4 → t ≠ 5 → t ≠ 6 → w' b = some (y, t)) ∧ ∀ b xs, isStr g w b xs → isStr g w' b xs
theorem FrP.rf : FrP g w w := ⟨fun _ _ _ h _ _ _ => h, fun _ _ h => h⟩
theorem FrP.tr {w1 w2 : Wd} (h1 : FrP g w w1) (h2 : FrP g w1 w2) : FrP g w w2 := ⟨fun b y t h a1 a2 a3 => h2.1 b y t (h1.1 b y t h a1 a2 a3) a1 a2 a3, fun b xs h => h2.2 b xs (h1.2 b xs h)⟩
theorem put_ct {kq vv : Nat} {xs : List Nat} (hM : isHM g w m E) (hS : isStr g w kq xs) (hs : okS xs) (hnew : ∀ d, d ∈ E → d.1 ≠ hkey xs) (hlen : E.length < 2 ^ 20) : Ct g yJ4_put cJ4_put 3 (some (.object "java/lang/Object")) 9 (2*E.length+6) (18*E.length+120) [.ref m, .ref kq, .ref vv] w (fun r w' => r = some .null ∧ isHM g w' m ((hkey xs, kq, vv) :: E) ∧ FrP g w w') noX := by
  refine Ct.of RJ4 "put" ⟨rfl, rfl⟩ (by decide +kernel) (by simp [Value.category] <;> exact cat_rf _) (Nat.le_of_ble_eq_true rfl) (fun x ok hQ hN => ?_)
  show Z g x 3 0 [some (.ref m), some (.ref kq), some (.ref vv)] [] w (2*E.length+6) (18*E.length+120)
  refine Z.aload_n ok dJ4_put_0 rfl (by first | exact isRf.r _ | exact isRf.n | exact isRf.v _ | assumption) ?_
  refine Z.aload_n ok dJ4_put_1 rfl (by first | exact isRf.r _ | exact isRf.n | exact isRf.v _ | assumption) ?_
  refine Z.callS (kc' := (2*E.length+6)) (ks' := (18*E.length+120)) ok (hash_ct hS hs) q588 q589 q21 q590 nk_J4_hash rfl (by decide) (by first | exact Nat.le_of_ble_eq_true rfl | simp [Value.category, cat_rf]) (by omega) (by omega) dJ4_put_2 rfl ZX.no (fun v w1 hr => ?_)
  obtain ⟨rfl, hF1⟩ := hr
  have hM1 : isHM g w1 m E := hM.keep (fun b y t hb ht => hF1.1 b y t hb (by omega))
  have hm1 : ∃ fs, w1 m = some (ob 7 fs, 4) := by
    obtain ⟨-, _, _, h⟩ := hM1
    rcases h with ⟨-, h⟩ | ⟨_, _, _, -, -, -, h, -⟩ <;> exact ⟨_, h⟩
  obtain ⟨fs, hm1⟩ := hm1
  refine Z.aload_n ok dJ4_put_5 rfl (by first | exact isRf.r _ | exact isRf.n | exact isRf.v _ | assumption) ?_
  refine Z.aload_n ok dJ4_put_6 rfl (by first | exact isRf.r _ | exact isRf.n | exact isRf.v _ | assumption) ?_
  refine Z.iconst_0 ok dJ4_put_7 ?_
  refine Z.iconst_1 ok dJ4_put_8 ?_
  refine Z.callV (kc' := 0) (ks' := 0) (ci := 7) (q := (RJ4, TJ4, 8)) (C := RJ4) ok (putVal_ct hM1 hnew hlen) hm1 rfl rfl q1233 q1234 (Or.inl q1235) q21 q1236 nk_J4_putVal rfl (by decide) (by first | exact Nat.le_of_ble_eq_true rfl | simp [Value.category, cat_rf]) (by omega) (by omega) dJ4_put_9 rfl ZX.no (fun v w2 hr => ?_)
  obtain ⟨rfl, hM2, hF2⟩ := hr
  refine Z.aret ok hQ (by first | exact Or.inl ⟨_, rfl⟩ | exact Or.inr ⟨_, rfl⟩) (by first | exact isRf.r _ | exact isRf.n | exact isRf.v _ | assumption) dJ4_put_12 ?_
  exact ⟨rfl, hM2, fun b y t hb h4 h5 h6 => hF2 b y t (hF1.1 b y t hb h6) h4 h5, fun b ys h => hF2.str (hF1.2 b ys h)⟩
end PUT3
