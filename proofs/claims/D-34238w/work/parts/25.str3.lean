/-! ===== STRINGS: hashCode, equals ===== -/
section STR3
variable {g : Gx} {w : Wd}
theorem strLatin_ct {a : Nat} {v z : Value} {h : Int32} {t : Nat} (h1 : w a = some (ob 11 [v, .int 0, .int h, z], t)) : Ct g yJ14_isLatin1 cJ14_isLatin1 1 (some .boolean) 1 0 0 [.ref a] w (PW (rI 1) w) noX := by
  refine Ct.of RJ14 "isLatin1" ⟨rfl, rfl⟩ (by decide +kernel) (by simp [Value.category]) (Nat.le_of_ble_eq_true rfl) (fun x ok hQ hN => ?_)
  show Z g x 1 0 [some (.ref a)] [] w 0 0
  refine Z.gets ok (fun U h => h.ss.2.2.1) q377 (Or.inl rfl) dJ14_isLatin1_0 ?_
  refine Z.if_eq (tgt := 17) ok dJ14_isLatin1_3 (by decide) (fun hc => absurd hc (by decide)) (fun _ => ?_)
  refine Z.aload_n ok dJ14_isLatin1_6 rfl (by first | exact isRf.r _ | exact isRf.n | exact isRf.v _ | assumption) ?_
  refine Z.get (ci := 11) (C := RJ14) (T := TJ14) (N := 4) ok (by first | assumption | exact ws_s | (rw [ws_n (by assumption)]; assumption)) rfl in_J14 1 (by decide) q562 (Or.inl rfl) (by rfl) dJ14_isLatin1_7 ?_
  refine Z.if_ne (tgt := 17) ok dJ14_isLatin1_10 (by decide) (fun hc => absurd (by rfl) hc) (fun _ => ?_)
  refine Z.iconst_1 ok dJ14_isLatin1_13 ?_
  refine Z.goto (tgt := 18) ok dJ14_isLatin1_14 (by decide) ?_
  refine Z.iret ok hQ rfl dJ14_isLatin1_18 ?_
  exact ⟨rfl, rfl⟩
def hsF (xs : List Nat) (h : Int32) : Int32 := xs.foldl (fun h c => 31 * h + nI c) h
theorem and255 : ∀ c : Nat, c < 128 → nI c &&& 255 = nI c := by decide +kernel
theorem shc_loop {x : Cx} {a t : Nat} {f : Nat → Int32} {xs : List Nat} {Post : Option Value → Wd → Prop} {PostX : String → Wd → Prop} (ok : OK g x RJ9 cJ9_signedHashCode 6 1 (some .int)) (hQ : EndQ g x Post PostX) (h2 : w a = some (eB g xs.length f, t)) (hn : xs.length < 2 ^ 31) (hf : ∀ j, j < xs.length → ∃ c, c < 128 ∧ f j = nI c ∧ xs.getD j 0 = c) (hp : Post (some (.int (hsF xs 0))) w) : ∀ (k j : Nat) (h : Int32), k + j = xs.length → hsF (xs.drop j) h = hsF xs 0 → Z g x 6 8 [some (.int h), some (.ref a), some (.int 0), some (.int (nI xs.length)), some (.int (nI xs.length)), some (.int (nI j))] [] w 0 0
  | 0, j, h, hk, hh => by
    have e : j = xs.length := by omega
    subst e
    refine Z.iload ok dJ9_signedHashCode_8 rfl ?_
    refine Z.iload ok dJ9_signedHashCode_10 rfl ?_
    refine Z.icmp_ge (tgt := 35) ok dJ9_signedHashCode_12 (by decide) (fun _ => ?_) (fun hc => absurd (nI_le (by omega) hn) hc)
    refine Z.iload_n ok dJ9_signedHashCode_35 rfl ?_
    refine Z.iret ok hQ rfl dJ9_signedHashCode_36 ?_
    rw [List.drop_length] at hh
    rw [show h = hsF xs 0 from hh]
    exact hp
  | k + 1, j, h, hk, hh => by
    obtain ⟨c, hc, e1, e2⟩ := hf j (by omega)
    refine Z.iload ok dJ9_signedHashCode_8 rfl ?_
    refine Z.iload ok dJ9_signedHashCode_10 rfl ?_
    refine Z.icmp_ge (tgt := 35) ok dJ9_signedHashCode_12 (by decide) (fun hc => absurd hc (nI_ge (by omega) hn)) (fun _ => ?_)
    refine Z.bipush (v := 31) ok dJ9_signedHashCode_15 (by decide) ?_
    refine Z.iload_n ok dJ9_signedHashCode_17 rfl ?_
    refine Z.imul ok dJ9_signedHashCode_18 ?_
    refine Z.aload_n ok dJ9_signedHashCode_19 rfl (by first | exact isRf.r _ | exact isRf.n | exact isRf.v _ | assumption) ?_
    refine Z.iload ok dJ9_signedHashCode_20 rfl ?_
    refine Z.bald ok h2 (vp_in_nI (by omega) hn) dJ9_signedHashCode_22 ?_
    rw [nI_clamp (by omega), e1]
    refine Z.sipush (v := 255) ok dJ9_signedHashCode_23 (by decide) ?_
    refine Z.iand ok dJ9_signedHashCode_26 ?_
    rw [and255 c hc]
    refine Z.iadd ok dJ9_signedHashCode_27 ?_
    refine Z.istore_n (i := 0) ok dJ9_signedHashCode_28 rfl (by decide) ?_
    refine Z.iinc ok dJ9_signedHashCode_29 rfl rfl ?_
    refine Z.goto (tgt := 8) ok dJ9_signedHashCode_32 (by decide) ?_
    have e3 : nI j + Int32.ofInt 1 = nI (j + 1) := nI_1 j
    refine Z.weak (kc' := 0) (ks' := 0) (w' := w) (Nat.le_refl _) (Nat.le_refl _) (L' := [some (.int (31 * h + nI c)), some (.ref a), some (.int 0), some (.int (nI xs.length)), some (.int (nI xs.length)), some (.int (nI (j + 1)))]) rfl (fun i v hv => by rw [← e3] at hv; exact hv) (fun _ _ h => h) ?_
    refine shc_loop ok hQ h2 hn hf hp k (j + 1) _ (by omega) ?_
    rw [← hh]
    have hj : j < xs.length := by omega
    rw [List.drop_eq_getElem_cons hj]
    show _ = hsF (xs.drop (j + 1)) (31 * h + nI xs[j])
    rw [← e2, List.getD_eq_getElem?_getD, List.getElem?_eq_getElem hj]
    rfl
theorem shc_ct {a t : Nat} {f : Nat → Int32} {xs : List Nat} (h2 : w a = some (eB g xs.length f, t)) (hn : xs.length < 2 ^ 31) (hf : ∀ j, j < xs.length → ∃ c, c < 128 ∧ f j = nI c ∧ xs.getD j 0 = c) : Ct g yJ9_signedHashCode cJ9_signedHashCode 6 (some .int) 1 0 0 [.int 0, .ref a, .int 0, .int (nI xs.length)] w (PW (rI (hsF xs 0)) w) noX := by
  refine Ct.of RJ9 "signedHashCode" ⟨rfl, rfl⟩ (by decide +kernel) (by simp [Value.category]) (Nat.le_of_ble_eq_true rfl) (fun x ok hQ hN => ?_)
  show Z g x 6 0 [some (.int 0), some (.ref a), some (.int 0), some (.int (nI xs.length)), none, none] [] w 0 0
  refine Z.iload_n ok dJ9_signedHashCode_0 rfl ?_
  refine Z.iload_n ok dJ9_signedHashCode_1 rfl ?_
  refine Z.iadd ok dJ9_signedHashCode_2 ?_
  refine Z.istore ok dJ9_signedHashCode_3 (by decide) ?_
  refine Z.iload_n ok dJ9_signedHashCode_5 rfl ?_
  refine Z.istore ok dJ9_signedHashCode_6 (by decide) ?_
  have e0 : (0 : Int32) + nI xs.length = nI xs.length := by simp
  rw [e0]
  exact shc_loop ok hQ h2 hn hf ⟨rfl, rfl⟩ xs.length 0 0 rfl rfl
theorem vhc_ct {a t : Nat} {f : Nat → Int32} {xs : List Nat} (h2 : w a = some (eB g xs.length f, t)) (hn : xs.length < 2 ^ 31) (hf : ∀ j, j < xs.length → ∃ c, c < 128 ∧ f j = nI c ∧ xs.getD j 0 = c) : Ct g yJ9_vectorizedHashCode cJ9_vectorizedHashCode 5 (some .int) 2 0 0 [.ref a, .int 0, .int (nI xs.length), .int 0, .int 4] w (PW (rI (hsF xs 0)) w) noX := by
  refine Ct.of RJ9 "vectorizedHashCode" ⟨rfl, rfl⟩ (by decide +kernel) (by simp [Value.category]) (Nat.le_of_ble_eq_true rfl) (fun x ok hQ hN => ?_)
  show Z g x 5 0 [some (.ref a), some (.int 0), some (.int (nI xs.length)), some (.int 0), some (.int 4)] [] w 0 0
  refine Z.iload ok dJ9_vectorizedHashCode_0 rfl ?_
  refine Z.tableIn (tgt := 44) ok dJ9_vectorizedHashCode_2 (by decide) (by decide) rfl (by decide) ?_
  refine Z.iload_n ok dJ9_vectorizedHashCode_44 rfl ?_
  refine Z.aload_n ok dJ9_vectorizedHashCode_45 rfl (by first | exact isRf.r _ | exact isRf.n | exact isRf.v _ | assumption) ?_
  refine Z.castB ok h2 (q618) dJ9_vectorizedHashCode_46 ?_
  refine Z.iload_n ok dJ9_vectorizedHashCode_49 rfl ?_
  refine Z.iload_n ok dJ9_vectorizedHashCode_50 rfl ?_
  refine Z.callS ok (shc_ct h2 hn hf) q619 q620 q28 q621 nk_J9_signedHashCode rfl (by decide) (by first | exact Nat.le_of_ble_eq_true rfl | simp [Value.category, cat_rf]) (Nat.le_refl _) (Nat.le_refl _) dJ9_vectorizedHashCode_51 rfl ZX.no (fun v w1 hp => ?_)
  obtain ⟨rfl, rfl⟩ := hp
  refine Z.goto (tgt := 157) ok dJ9_vectorizedHashCode_54 (by decide) ?_
  refine Z.iret ok hQ rfl dJ9_vectorizedHashCode_157 ?_
  exact ⟨rfl, rfl⟩
theorem latHash_ct {a t : Nat} {f : Nat → Int32} {xs : List Nat} (h2 : w a = some (eB g xs.length f, t)) (hn : xs.length < 2 ^ 31) (h1 : 1 < xs.length) (hf : ∀ j, j < xs.length → ∃ c, c < 128 ∧ f j = nI c ∧ xs.getD j 0 = c) : Ct g yJ22_hashCode cJ22_hashCode 1 (some .int) 3 0 0 [.ref a] w (PW (rI (hsF xs 0)) w) noX := by
  refine Ct.of RJ22 "hashCode" ⟨rfl, rfl⟩ (by decide +kernel) (by simp [Value.category]) (Nat.le_of_ble_eq_true rfl) (fun x ok hQ hN => ?_)
  show Z g x 1 0 [some (.ref a)] [] w 0 0
  refine Z.aload_n ok dJ22_hashCode_0 rfl (by first | exact isRf.r _ | exact isRf.n | exact isRf.v _ | assumption) ?_
  refine Z.alen (k0 := 2) ok h2 rfl dJ22_hashCode_1 ?_
  refine Z.lookup (tgt := 42) (off := 40) ok dJ22_hashCode_2 (by decide) ?_ (by decide) ?_
  · show Op.lookupswitch.offset [(0, 26), (1, 30)] 40 (nI xs.length).toInt = 40
    rw [lv_osw (k := 0) (fun c => by have := (nI_eq hn (by decide)).mp (show nI xs.length = nI 0 from c); omega) (by decide), lv_osw (k := 1) (fun c => by have := (nI_eq hn (by decide)).mp (show nI xs.length = nI 1 from c); omega) (by decide)]
    rfl
  · refine Z.aload_n ok dJ22_hashCode_42 rfl (by first | exact isRf.r _ | exact isRf.n | exact isRf.v _ | assumption) ?_
    refine Z.iconst_0 ok dJ22_hashCode_43 ?_
    refine Z.aload_n ok dJ22_hashCode_44 rfl (by first | exact isRf.r _ | exact isRf.n | exact isRf.v _ | assumption) ?_
    refine Z.alen (k0 := 2) ok h2 rfl dJ22_hashCode_45 ?_
    refine Z.iconst_0 ok dJ22_hashCode_46 ?_
    refine Z.iconst_4 ok dJ22_hashCode_47 ?_
    refine Z.callS ok (vhc_ct h2 hn hf) q615 q616 q28 q617 nk_J9_vectorizedHashCode rfl (by decide) (by first | exact Nat.le_of_ble_eq_true rfl | simp [Value.category, cat_rf]) (Nat.le_refl _) (Nat.le_refl _) dJ22_hashCode_48 rfl ZX.no (fun v w1 hp => ?_)
    obtain ⟨rfl, rfl⟩ := hp
    refine Z.iret ok hQ rfl dJ22_hashCode_51 ?_
    exact ⟨rfl, rfl⟩
theorem nI_inj128 {a b : Nat} (ha : a < 128) (hb : b < 128) (h : nI a = nI b) : a = b := (nI_eq (by omega) (by omega)).mp h
theorem list_ext_getD {xs ys : List Nat} (h : xs.length = ys.length) (h2 : ∀ j, j < xs.length → xs.getD j 0 = ys.getD j 0) : xs = ys := by
  apply List.ext_getElem h
  intro i h3 h4
  have := h2 i h3
  rw [List.getD_eq_getElem?_getD, List.getD_eq_getElem?_getD, List.getElem?_eq_getElem h3, List.getElem?_eq_getElem h4] at this
  exact this
theorem getD_mem {xs : List Nat} {j : Nat} (h : j < xs.length) : xs.getD j 0 ∈ xs := by
  rw [List.getD_eq_getElem?_getD, List.getElem?_eq_getElem h]
  exact List.getElem_mem h
theorem isStr.uniq {a : Nat} {xs ys : List Nat} (h1 : isStr g w a xs) (h2 : isStr g w a ys) : xs = ys := by
  obtain ⟨v, f, h0, k1, k2, k3, k4, k5⟩ := h1
  obtain ⟨v', f', h0', m1, m2, m3, m4, m5⟩ := h2
  rw [k1] at m1
  cases m1
  rw [k2] at m2
  have hl : xs.length = ys.length := by injection m2 with e; injection e with e; injection e with e; injection e with _ e; injection e
  have hf : f = f' := by injection m2 with e; injection e with e; injection e with e; injection e with _ e; injection e with _ e; injection e
  subst hf
  refine list_ext_getD hl (fun j hj => nI_inj128 (k5 _ (getD_mem hj)) (m5 _ (getD_mem (hl ▸ hj))) ?_)
  rw [← k3 j hj, ← m3 j (hl ▸ hj)]
/-- hashCode stores the hash: the frame -/
def FrK (g : Gx) (w w' : Wd) : Prop := (∀ b e t, w b = some (e, t) → t ≠ 6 → w' b = some (e, t)) ∧ ∀ b xs, isStr g w b xs → isStr g w' b xs
theorem FrK.rf {w : Wd} : FrK g w w := ⟨fun _ _ _ h _ => h, fun _ _ h => h⟩
theorem FrK.tr {w w1 w2 : Wd} (h1 : FrK g w w1) (h2 : FrK g w1 w2) : FrK g w w2 := ⟨fun b e t h a1 => h2.1 b e t (h1.1 b e t h a1) a1, fun b xs h => h2.2 b xs (h1.2 b xs h)⟩
theorem strHash_ct {a : Nat} {xs : List Nat} (h : isStr g w a xs) (h1 : 1 < xs.length) (hn : xs.length < 2 ^ 31) (hz : hsI xs ≠ 0) : Ct g yJ14_hashCode cJ14_hashCode 2 (some .int) 4 0 0 [.ref a] w (fun r w' => r = rI (hsI xs) ∧ FrK g w w') noX := by
  refine Ct.of RJ14 "hashCode" ⟨rfl, rfl⟩ (by decide +kernel) (by simp [Value.category]) (Nat.le_of_ble_eq_true rfl) (fun x ok hQ hN => ?_)
  show Z g x 2 0 [some (.ref a), none] [] w 0 0
  have hu : ∀ ys, isStr g w a ys → ys = xs := fun ys hy => hy.uniq h
  obtain ⟨v, f, h0, k1, k2, k3, k4, hc⟩ := h
  refine Z.aload_n ok dJ14_hashCode_0 rfl (by first | exact isRf.r _ | exact isRf.n | exact isRf.v _ | assumption) ?_
  refine Z.get (ci := 11) (C := RJ14) (T := TJ14) (N := 4) ok (by first | assumption | exact ws_s | (rw [ws_n (by assumption)]; assumption)) rfl in_J14 2 (by decide) q563 (Or.inl rfl) (by rfl) dJ14_hashCode_1 ?_
  refine Z.istore_n (i := 1) ok dJ14_hashCode_4 rfl (by decide) ?_
  refine Z.iload_n ok dJ14_hashCode_5 rfl ?_
  by_cases hh : h0 = 0
  · subst hh
    refine Z.if_ne (tgt := 58) ok dJ14_hashCode_6 (by decide) (fun hc => absurd rfl hc) (fun _ => ?_)
    refine Z.aload_n ok dJ14_hashCode_9 rfl (by first | exact isRf.r _ | exact isRf.n | exact isRf.v _ | assumption) ?_
    refine Z.get (ci := 11) (C := RJ14) (T := TJ14) (N := 4) ok (by first | assumption | exact ws_s | (rw [ws_n (by assumption)]; assumption)) rfl in_J14 3 (by decide) q564 (Or.inl rfl) (by rfl) dJ14_hashCode_10 ?_
    refine Z.if_ne (tgt := 58) ok dJ14_hashCode_13 (by decide) (fun hc => absurd rfl hc) (fun _ => ?_)
    refine Z.aload_n ok dJ14_hashCode_16 rfl (by first | exact isRf.r _ | exact isRf.n | exact isRf.v _ | assumption) ?_
    refine Z.callV (ci := 11) (q := (RJ14, TJ14, 4)) (C := RJ14) ok (strLatin_ct k1) (by first | assumption | exact ws_s | (rw [ws_n (by assumption)]; assumption)) rfl rfl q608 q609 (Or.inl q610) q34 q611 nk_J14_isLatin1 rfl (by decide) (by first | exact Nat.le_of_ble_eq_true rfl | simp [Value.category, cat_rf]) (Nat.le_refl _) (Nat.le_refl _) dJ14_hashCode_17 rfl ZX.no (fun v w1 hp => ?_)
    obtain ⟨rfl, rfl⟩ := hp
    refine Z.if_eq (tgt := 33) ok dJ14_hashCode_20 (by decide) (fun hc => absurd hc (by decide)) (fun _ => ?_)
    refine Z.aload_n ok dJ14_hashCode_23 rfl (by first | exact isRf.r _ | exact isRf.n | exact isRf.v _ | assumption) ?_
    refine Z.get (ci := 11) (C := RJ14) (T := TJ14) (N := 4) ok (by first | assumption | exact ws_s | (rw [ws_n (by assumption)]; assumption)) rfl in_J14 0 (by decide) q561 (Or.inl rfl) (by rfl) dJ14_hashCode_24 ?_
    refine Z.callS ok (latHash_ct k2 hn h1 (fun j hj => ⟨_, hc _ (by rw [List.getD_eq_getElem?_getD, List.getElem?_eq_getElem hj]; exact List.getElem_mem hj), k3 j hj, rfl⟩)) q612 q613 q46 q614 nk_J22_hashCode rfl (by decide) (by first | exact Nat.le_of_ble_eq_true rfl | simp [Value.category, cat_rf]) (Nat.le_refl _) (Nat.le_refl _) dJ14_hashCode_27 rfl ZX.no (fun v w1 hp => ?_)
    obtain ⟨rfl, rfl⟩ := hp
    refine Z.goto (tgt := 40) ok dJ14_hashCode_30 (by decide) ?_
    refine Z.istore_n (i := 1) ok dJ14_hashCode_40 rfl (by decide) ?_
    refine Z.iload_n ok dJ14_hashCode_41 rfl ?_
    refine Z.if_ne (tgt := 53) ok dJ14_hashCode_42 (by decide) (fun _ => ?_) (fun hc => absurd hc hz)
    refine Z.aload_n ok dJ14_hashCode_53 rfl (by first | exact isRf.r _ | exact isRf.n | exact isRf.v _ | assumption) ?_
    refine Z.iload_n ok dJ14_hashCode_54 rfl ?_
    refine Z.put (ci := 11) (C := RJ14) (T := TJ14) (N := 4) (ty0 := tyJ14) ok (by first | assumption | exact ws_s | (rw [ws_n (by assumption)]; assumption)) (by first | decide | assumption) rfl in_J14 tyJ14_ok nmJ14 2 (by decide) q563 (Or.inl rfl) rfl (okV_i _) (by rfl) dJ14_hashCode_55 ?_
    refine Z.iload_n ok dJ14_hashCode_58 rfl ?_
    refine Z.iret ok hQ rfl dJ14_hashCode_59 ?_
    refine ⟨rfl, fun b e t hb h6 => ?_, fun b ys hs => ?_⟩
    · by_cases hab : b = a
      · subst hab
        rw [k1] at hb
        cases hb
        exact absurd rfl h6
      · rw [ws_n hab]
        exact hb
    · obtain ⟨v', f', h', m1, m2, m3, m4, m5⟩ := id hs
      have nv : v' ≠ a := fun e => by rw [e, k1] at m2; cases m2
      by_cases hab : b = a
      · subst hab
        have := hu ys hs
        subst this
        rw [k1] at m1
        cases m1
        exact ⟨_, _, hsI ys, ws_s, (ws_n nv).trans m2, m3, Or.inr rfl, m5⟩
      · exact ⟨v', f', h', (ws_n hab).trans m1, (ws_n nv).trans m2, m3, m4, m5⟩
  · refine Z.if_ne (tgt := 58) ok dJ14_hashCode_6 (by decide) (fun _ => ?_) (fun hc => absurd hc hh)
    refine Z.iload_n ok dJ14_hashCode_58 rfl ?_
    refine Z.iret ok hQ rfl dJ14_hashCode_59 ?_
    exact ⟨by rw [k4.resolve_left hh], FrK.rf⟩
theorem latEq_ct {a b t t2 : Nat} {f f2 : Nat → Int32} {xs : List Nat} (h2 : w a = some (eB g xs.length f, t)) (h3 : w b = some (eB g xs.length f2, t2)) (hn : xs.length < 2 ^ 31) (hf : ∀ j, j < xs.length → f j = f2 j) : Ct g yJ22_equals cJ22_equals 3 (some .boolean) 1 0 0 [.ref a, .ref b] w (PW (rI 1) w) noX := by
  refine Ct.of RJ22 "equals" ⟨rfl, rfl⟩ (by decide +kernel) (by simp [Value.category]) (Nat.le_of_ble_eq_true rfl) (fun x ok hQ hN => ?_)
  show Z g x 3 0 [some (.ref a), some (.ref b), none] [] w 0 0
  refine Z.aload_n ok dJ22_equals_0 rfl (by first | exact isRf.r _ | exact isRf.n | exact isRf.v _ | assumption) ?_
  refine Z.alen (k0 := 2) ok h2 rfl dJ22_equals_1 ?_
  refine Z.aload_n ok dJ22_equals_2 rfl (by first | exact isRf.r _ | exact isRf.n | exact isRf.v _ | assumption) ?_
  refine Z.alen (k0 := 2) ok h3 rfl dJ22_equals_3 ?_
  refine Z.icmp_ne (tgt := 34) ok dJ22_equals_4 (by decide) (fun hc => absurd rfl hc) (fun _ => ?_)
  refine Z.iconst_0 ok dJ22_equals_7 ?_
  refine Z.istore_n (i := 2) ok dJ22_equals_8 rfl (by decide) ?_
  have loop : ∀ (k j : Nat), k + j = xs.length → Z g x 3 9 [some (.ref a), some (.ref b), some (.int (nI j))] [] w 0 0 := by
    intro k
    induction k with
    | zero =>
      intro j hj
      refine Z.iload_n ok dJ22_equals_9 rfl ?_
      refine Z.aload_n ok dJ22_equals_10 rfl (by first | exact isRf.r _ | exact isRf.n | exact isRf.v _ | assumption) ?_
      refine Z.alen (k0 := 2) ok h2 rfl dJ22_equals_11 ?_
      refine Z.icmp_ge (tgt := 32) ok dJ22_equals_12 (by decide) (fun _ => ?_) (fun hc => absurd (nI_le (by omega) (by omega)) hc)
      refine Z.iconst_1 ok dJ22_equals_32 ?_
      refine Z.iret ok hQ rfl dJ22_equals_33 ?_
      exact ⟨rfl, rfl⟩
    | succ k ih =>
      intro j hj
      refine Z.iload_n ok dJ22_equals_9 rfl ?_
      refine Z.aload_n ok dJ22_equals_10 rfl (by first | exact isRf.r _ | exact isRf.n | exact isRf.v _ | assumption) ?_
      refine Z.alen (k0 := 2) ok h2 rfl dJ22_equals_11 ?_
      refine Z.icmp_ge (tgt := 32) ok dJ22_equals_12 (by decide) (fun hc => absurd hc (nI_ge (by omega) hn)) (fun _ => ?_)
      refine Z.aload_n ok dJ22_equals_15 rfl (by first | exact isRf.r _ | exact isRf.n | exact isRf.v _ | assumption) ?_
      refine Z.iload_n ok dJ22_equals_16 rfl ?_
      refine Z.bald ok h2 (vp_in_nI (by omega) hn) dJ22_equals_17 ?_
      refine Z.aload_n ok dJ22_equals_18 rfl (by first | exact isRf.r _ | exact isRf.n | exact isRf.v _ | assumption) ?_
      refine Z.iload_n ok dJ22_equals_19 rfl ?_
      refine Z.bald ok h3 (vp_in_nI (by omega) hn) dJ22_equals_20 ?_
      rw [nI_clamp (by omega), hf j (by omega)]
      refine Z.icmp_eq (tgt := 26) ok dJ22_equals_21 (by decide) (fun _ => ?_) (fun hc => absurd rfl hc)
      refine Z.iinc ok dJ22_equals_26 rfl rfl ?_
      refine Z.goto (tgt := 9) ok dJ22_equals_29 (by decide) ?_
      have e3 : nI j + Int32.ofInt 1 = nI (j + 1) := nI_1 j
      refine Z.weak (kc' := 0) (ks' := 0) (w' := w) (Nat.le_refl _) (Nat.le_refl _) (L' := [some (.ref a), some (.ref b), some (.int (nI (j + 1)))]) rfl (fun i v hv => by rw [← e3] at hv; exact hv) (fun _ _ h => h) ?_
      exact ih (j + 1) (by omega)
  exact loop xs.length 0 rfl
theorem strEq_ct {a b : Nat} {xs : List Nat} (h : isStr g w a xs) (h' : isStr g w b xs) (hn : xs.length < 2 ^ 31) : Ct g yJ14_equals cJ14_equals 3 (some .boolean) 2 0 0 [.ref a, .ref b] w (PW (rI 1) w) noX := by
  refine Ct.of RJ14 "equals" ⟨rfl, rfl⟩ (by decide +kernel) (by simp [Value.category]) (Nat.le_of_ble_eq_true rfl) (fun x ok hQ hN => ?_)
  show Z g x 3 0 [some (.ref a), some (.ref b), none] [] w 0 0
  obtain ⟨v, f, h0, k1, k2, k3, k4, k5⟩ := h
  obtain ⟨v', f', h0', m1, m2, m3, m4, m5⟩ := h'
  refine Z.aload_n ok dJ14_equals_0 rfl (by first | exact isRf.r _ | exact isRf.n | exact isRf.v _ | assumption) ?_
  refine Z.aload_n ok dJ14_equals_1 rfl (by first | exact isRf.r _ | exact isRf.n | exact isRf.v _ | assumption) ?_
  show Z g x 3 _ _ [va_rf (some b), va_rf (some a)] w _ _
  refine Z.acmp_ne (tgt := 7) ok dJ14_equals_2 (by decide) (fun hc => ?_) (fun hc => ?_)
  · refine Z.aload_n ok dJ14_equals_7 rfl (by first | exact isRf.r _ | exact isRf.n | exact isRf.v _ | assumption) ?_
    refine Z.instS (ci := 11) (q := (RJ14, TJ14, 4)) ok (by first | assumption | exact ws_s | (rw [ws_n (by assumption)]; assumption)) rfl rfl q693 dJ14_equals_8 ?_
    refine Z.if_eq (tgt := 54) ok dJ14_equals_11 (by decide) (fun hc => absurd hc (by decide)) (fun _ => ?_)
    refine Z.aload_n ok dJ14_equals_14 rfl (by first | exact isRf.r _ | exact isRf.n | exact isRf.v _ | assumption) ?_
    refine Z.castS (ci := 11) (q := (RJ14, TJ14, 4)) ok (by first | assumption | exact ws_s | (rw [ws_n (by assumption)]; assumption)) rfl rfl q693 dJ14_equals_15 ?_
    refine Z.astore_n (i := 2) ok dJ14_equals_18 rfl (by decide) (by first | exact isRf.r _ | exact isRf.n | exact isRf.v _ | assumption) ?_
    refine Z.gets ok (fun U h => h.ss.2.2.1) q377 (Or.inl rfl) dJ14_equals_19 ?_
    refine Z.if_eq (tgt := 36) ok dJ14_equals_22 (by decide) (fun hc => absurd hc (by decide)) (fun _ => ?_)
    refine Z.aload_n ok dJ14_equals_25 rfl (by first | exact isRf.r _ | exact isRf.n | exact isRf.v _ | assumption) ?_
    refine Z.get (ci := 11) (C := RJ14) (T := TJ14) (N := 4) ok (by first | assumption | exact ws_s | (rw [ws_n (by assumption)]; assumption)) rfl in_J14 1 (by decide) q562 (Or.inl rfl) (by rfl) dJ14_equals_26 ?_
    refine Z.aload_n ok dJ14_equals_29 rfl (by first | exact isRf.r _ | exact isRf.n | exact isRf.v _ | assumption) ?_
    refine Z.get (ci := 11) (C := RJ14) (T := TJ14) (N := 4) ok (by first | assumption | exact ws_s | (rw [ws_n (by assumption)]; assumption)) rfl in_J14 1 (by decide) q562 (Or.inl rfl) (by rfl) dJ14_equals_30 ?_
    refine Z.icmp_ne (tgt := 54) ok dJ14_equals_33 (by decide) (fun hc => absurd rfl hc) (fun _ => ?_)
    refine Z.aload_n ok dJ14_equals_36 rfl (by first | exact isRf.r _ | exact isRf.n | exact isRf.v _ | assumption) ?_
    refine Z.get (ci := 11) (C := RJ14) (T := TJ14) (N := 4) ok (by first | assumption | exact ws_s | (rw [ws_n (by assumption)]; assumption)) rfl in_J14 0 (by decide) q561 (Or.inl rfl) (by rfl) dJ14_equals_37 ?_
    refine Z.aload_n ok dJ14_equals_40 rfl (by first | exact isRf.r _ | exact isRf.n | exact isRf.v _ | assumption) ?_
    refine Z.get (ci := 11) (C := RJ14) (T := TJ14) (N := 4) ok (by first | assumption | exact ws_s | (rw [ws_n (by assumption)]; assumption)) rfl in_J14 0 (by decide) q561 (Or.inl rfl) (by rfl) dJ14_equals_41 ?_
    refine Z.callS ok (latEq_ct k2 m2 hn (fun j hj => (k3 j hj).trans (m3 j hj).symm)) q694 q695 q46 q696 nk_J22_equals rfl (by decide) (by first | exact Nat.le_of_ble_eq_true rfl | simp [Value.category, cat_rf]) (Nat.le_refl _) (Nat.le_refl _) dJ14_equals_44 rfl ZX.no (fun v w1 hp => ?_)
    obtain ⟨rfl, rfl⟩ := hp
    refine Z.if_eq (tgt := 54) ok dJ14_equals_47 (by decide) (fun hc => absurd hc (by decide)) (fun _ => ?_)
    refine Z.iconst_1 ok dJ14_equals_50 ?_
    refine Z.goto (tgt := 55) ok dJ14_equals_51 (by decide) ?_
    refine Z.iret ok hQ rfl dJ14_equals_55 ?_
    exact ⟨rfl, rfl⟩
  · refine Z.iconst_1 ok dJ14_equals_5 ?_
    refine Z.iret ok hQ rfl dJ14_equals_6 ?_
    exact ⟨rfl, rfl⟩
end STR3
