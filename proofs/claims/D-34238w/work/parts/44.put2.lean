/-! ===== HASHMAP: putVal, put ===== -/
section PUT2
variable {g : Gx} {w w0 : Wd} {m T e : Nat} {mc : Int32} {lf : UInt32} {f : Nat → Option Nat} {E : List Dt}
/-- after the insertion, at 259: room for one resize more -/
abbrev PvK (g : Gx) (x : Cx) (w0 : Wd) (m : Nat) (mc : Int32) (lf : UInt32) (d : Dt) (E : List Dt) : Prop := ∀ (w : Wd) (T e : Nat) (f : Nat → Option Nat) (l1 l2 l3 l4 l6 l7 l8 l9 l10 l11 l12 : Option Value), 4 ≤ e → (2 ^ e ≤ 64 ∨ 3 * 2 ^ e ≤ 8 * E.length) → E.length ≤ 3 * 2 ^ (e - 2) → HT g w T e f (d :: E) → w m = some (eM (.ref T) (nI E.length) mc (nI (3 * 2 ^ (e - 2))) lf, 4) → FrH w0 w → Z g x 13 259 [some (.ref m), l1, l2, l3, l4, some (.int 1), l6, l7, l8, l9, l10, l11, l12] [] w (E.length + 2) (7 * E.length + 7)
theorem cap_lt {e n : Nat} (h : 2 ^ e ≤ 64 ∨ 3 * 2 ^ e ≤ 8 * n) (hn : n < 2 ^ 20) : e < 22 := by
  refine Nat.lt_of_not_le (fun q => ?_)
  have := Nat.pow_le_pow_right (n := 2) (by omega) q
  omega
/-- the walk along a plain bin, the new node at its end -/
theorem pv_chain {x : Cx} {hh : Int32} {kk vv : Nat} {C : List Nat} {h : Nat → Int32} {k v : Nat → Nat} {nx : Nat → Option Nat} (ok : OK g x RJ4 cJ4_putVal 13 8 (some (.object "java/lang/Object"))) (he4 : 4 ≤ e) (hcap : 2 ^ e ≤ 64 ∨ 3 * 2 ^ e ≤ 8 * E.length) (hthr : E.length ≤ 3 * 2 ^ (e - 2)) (hT : HT g w T e f E) (hm : w m = some (eM (.ref T) (nI E.length) mc (nI (3 * 2 ^ (e - 2))) lf, 4)) (hF : FrH w0 w) (hinj : (((hh, kk, vv) :: E).map (fun d => d.1)).Nodup) (hlen : E.length < 2 ^ 20)
    (hN : NW w (fun a => a ∈ C) h k v nx) (hseg : seg nx C none) (hnd : C.Nodup) (hp : (C.map (dat h k v)).Perm (E.filter (inBk e (ix e hh)))) (hfi : f (ix e hh) = hd C none) (kont : PvK g x w0 m mc lf (hh, kk, vv) E) : ∀ (r : List Nat) (p : Nat) (D : List Nat) (l8 l10 l11 : Option Value), C = D ++ p :: r → Z g x 13 134 [some (.ref m), some (.int hh), some (.ref kk), some (.ref vv), some (.int 0), some (.int 1), some (.ref T), some (.ref p), l8, some (.int (nI (ix e hh))), l10, l11, some (.int (nI D.length))] [] w (2 * E.length + 5) (18 * E.length + 90) := by
  have he := cap_lt hcap hlen
  have hnew : ∀ d, d ∈ E → d.1 ≠ hh := by
    rw [List.map_cons, List.nodup_cons] at hinj
    exact fun d hd q => hinj.1 (List.mem_map.mpr ⟨d, hd, q⟩)
  have hinjE : (E.map (fun d => d.1)).Nodup := by
    rw [List.map_cons, List.nodup_cons] at hinj
    exact hinj.2
  have hne : ∀ a, a ∈ C → h a ≠ hh := dat_all (Q := fun d => d.1 ≠ hh) hp (fun d hd => hnew d (List.mem_filter.mp hd).1)
  have hCl : C.length ≤ E.length := by
    have := hp.length_eq
    rw [List.length_map] at this
    rw [this]
    exact List.length_filter_le _ _
  have hCbin : Bin w C (E.filter (inBk e (ix e hh))) := Or.inl ⟨h, k, v, nx, hN, hseg, hnd, hp⟩
  have t1 := two_lt (e := e) (by omega)
  intro r
  induction r with
  | nil =>
    intro p D l8 l10 l11 hD
    have tp : (fun a => a ∈ C) p := by show p ∈ C; rw [hD]; simp
    have hx : nx p = none := by
      rw [hD, seg_app] at hseg
      exact hseg.2.1
    refine Z.aload ok dJ4_putVal_134 rfl (by first | exact isRf.r _ | exact isRf.n | exact isRf.v _ | assumption) ?_
    refine Z.get (ci := 8) (C := RJ26) (T := TJ26) (N := 4) ok (hN _ tp) rfl in_J26 3 (by decide) q1278 (Or.inl rfl) (by rfl) dJ4_putVal_136 ?_
    rw [hx]
    refine Z.dup ok dJ4_putVal_139 (by first | rfl | exact cat_rf _) ?_
    refine Z.astore ok dJ4_putVal_140 (by decide) (by first | exact isRf.r _ | exact isRf.n | exact isRf.v _ | assumption) ?_
    refine Z.ifnonnullN ok dJ4_putVal_142 ?_
    refine Z.aload ok dJ4_putVal_145 rfl (by first | exact isRf.r _ | exact isRf.n | exact isRf.v _ | assumption) ?_
    refine Z.aload_n ok dJ4_putVal_147 rfl (by first | exact isRf.r _ | exact isRf.n | exact isRf.v _ | assumption) ?_
    refine Z.iload_n ok dJ4_putVal_148 rfl ?_
    refine Z.aload_n ok dJ4_putVal_149 rfl (by first | exact isRf.r _ | exact isRf.n | exact isRf.v _ | assumption) ?_
    refine Z.aload_n ok dJ4_putVal_150 rfl (by first | exact isRf.r _ | exact isRf.n | exact isRf.v _ | assumption) ?_
    refine Z.null ok dJ4_putVal_151 ?_
    refine Z.callV (kc' := (2*E.length+4)) (ks' := (18*E.length+86)) (ci := 7) (q := (RJ4, TJ4, 8)) (C := RJ4) ok (newNode_ct (m := m) (nn := none)) hm rfl rfl q1307 q1308 (Or.inl q1309) q21 q1310 nk_J4_newNode rfl (by decide) (by first | exact Nat.le_of_ble_eq_true rfl | simp [Value.category, cat_rf]) (by omega) (by omega) dJ4_putVal_152 rfl ZX.no (fun v w1 hr => ?_)
    obtain ⟨q, rfl, hq, hq1, ho⟩ := hr
    have hqC : q ∉ C := fun z => by rw [hN q z] at hq; cases hq
    have hpq : p ≠ q := fun z => hqC (by rw [← z]; exact tp)
    have hwp : w1 p = some (eNd h k v nx p, 5) := (ho p hpq).trans (hN p tp)
    refine Z.put (ci := 8) (C := RJ26) (T := TJ26) (N := 4) (ty0 := tyJ26) ok hwp (by first | decide | assumption) rfl in_J26 tyJ26_ok nmJ26 3 (by decide) q1278 (Or.inl rfl) rfl (okV_o (by first | exact isRf.r _ | exact isRf.n | exact isRf.v _ | assumption)) (by rfl) dJ4_putVal_155 ?_
    have eC : C ++ [q] = D ++ [p] ++ [q] := by rw [hD]
    have hN2 : NW (wset w1 p (ob 8 ([Value.int (h p), .ref (k p), .ref (v p), va_rf (nx p)].set 3 (.ref q))) 5) (fun a => a ∈ C ++ [q]) (up1 h q hh) (up1 k q kk) (up1 v q vv) (up1 (up1 nx q none) p (some q)) := by
      intro a ha
      by_cases e1 : a = p
      · subst e1
        rw [ws_s]
        simp only [eNd, up1_s, up1_n hpq]
        rfl
      · rw [ws_n e1]
        by_cases e2 : a = q
        · subst e2
          rw [hq1]
          simp only [eNd, up1_s, up1_n e1]
        · have : a ∈ C := by simpa [e2] using ha
          rw [ho a e2, hN a this]
          simp only [eNd, up1_n e1, up1_n e2]
    have hF3 : ∀ b, b ∉ C → w b ≠ none → wset w1 p (ob 8 ([Value.int (h p), .ref (k p), .ref (v p), va_rf (nx p)].set 3 (.ref q))) 5 b = w b := fun b h1 h3 => (ws_n (fun z => h1 (by rw [z]; exact tp))).trans (ho b (fun z => h3 (by rw [z]; exact hq)))
    generalize wset w1 p (ob 8 ([Value.int (h p), .ref (k p), .ref (v p), va_rf (nx p)].set 3 (.ref q))) 5 = w2 at hN2 hF3 ⊢
    have hTC := hCbin.nT hT.1
    have hTt : w2 T = some (eN g (2 ^ e) f, 5) := (hF3 T hTC (by rw [hT.1]; exact Option.some_ne_none _)).trans hT.1
    have hC2 : PBin w2 (C ++ [q]) ((hh, kk, vv) :: E.filter (inBk e (ix e hh))) := by
      refine ⟨_, _, _, _, hN2, ?_, ?_, ?_⟩
      · rw [eC]
        rw [hD] at hseg hnd hqC
        exact seg_snoc hseg hnd hqC
      · rw [List.nodup_append]
        exact ⟨hnd, by simp, fun a ha b hb => by simp at hb; subst hb; exact fun z => hqC (by rw [← z]; exact ha)⟩
      · rw [List.map_append]
        refine (List.perm_append_comm).trans ?_
        have e1 : List.map (dat (up1 h q hh) (up1 k q kk) (up1 v q vv)) [q] = [(hh, kk, vv)] := by simp only [List.map_cons, List.map_nil, dat, up1_s]
        rw [e1, map_up (h := h) (k := k) (v := v) (fun a ha => up1_n (fun z => hqC (by rw [← z]; exact ha))) (fun a ha => up1_n (fun z => hqC (by rw [← z]; exact ha))) (fun a ha => up1_n (fun z => hqC (by rw [← z]; exact ha)))]
        exact hp.cons _
    have hdC : hd (C ++ [q]) none = hd C none := by rw [hD]; cases D <;> rfl
    have hT2 : HT g w2 T e f ((hh, kk, vv) :: E) := hT.ins (d := (hh, kk, vv)) hCbin (Or.inl hC2) hTt (hfi.trans hdC.symm) (fun _ _ => rfl) (fun b h1 _ h3 => hF3 b h1 h3)
    have hfr := frH_of_Bin hCbin hT.1 (fun b h1 _ h3 => hF3 b h1 h3)
    have hm2 := hfr m _ _ hm (by decide)
    have hF4 : FrH w0 w2 := hF.tr (fun b y t hb _ h5 => hfr b y t hb h5)
    refine Z.iload ok dJ4_putVal_158 rfl ?_
    refine Z.bipush (v := 7) ok dJ4_putVal_160 (by decide) ?_
    by_cases h7 : D.length < 7
    · refine Z.icmp_lt (tgt := 222) ok dJ4_putVal_162 (by decide) (fun _ => ?_) (fun hc => absurd (show nI D.length < nI 7 from nI_lt h7 (by decide)) hc)
      refine Z.aload ok dJ4_putVal_222 rfl (by first | exact isRf.r _ | exact isRf.n | exact isRf.v _ | assumption) ?_
      refine Z.ifnullN (tgt := 259) ok dJ4_putVal_224 (by decide) ?_
      refine Z.room (kc' := E.length + 2) (ks' := 7 * E.length + 7) (by omega) (by omega) ?_
      exact kont w2 T e f _ _ _ _ _ _ _ _ _ _ _ he4 hcap hthr hT2 hm2 hF4
    · have hDl : D.length < 2 ^ 30 := by rw [hD] at hCl; simp at hCl; omega
      refine Z.icmp_lt (tgt := 222) ok dJ4_putVal_162 (by decide) (fun hc => absurd hc (show ¬ nI D.length < nI 7 from nI_nlt (Nat.not_lt.mp h7) (by omega))) (fun _ => ?_)
      refine Z.aload_n ok dJ4_putVal_165 rfl (by first | exact isRf.r _ | exact isRf.n | exact isRf.v _ | assumption) ?_
      refine Z.aload ok dJ4_putVal_166 rfl (by first | exact isRf.r _ | exact isRf.n | exact isRf.v _ | assumption) ?_
      refine Z.iload_n ok dJ4_putVal_168 rfl ?_
      by_cases h64 : 64 ≤ 2 ^ e
      · refine Z.room (kc' := E.length + 2 + (C ++ [q]).length) (ks' := 7 * E.length + 7 + 11 * (C ++ [q]).length) (by simp; omega) (by simp; omega) ?_
        refine Z.callV (kc' := (E.length+2)) (ks' := (7*E.length+7)) (ci := 7) (q := (RJ4, TJ4, 8)) (C := RJ4) ok (tfbin_ct (n := 2 ^ e) (i := ix e hh) (B := C ++ [q]) hm2 hTt h64 t1 (ix_lt _ _) (ix_mask (by omega) hh) (hfi.trans hdC.symm) (by simp) hC2 (fun d hd => by rw [ix_mask (by omega)]; rcases List.mem_cons.mp hd with z | z; rw [z]; rw [of_decide_eq_true (List.mem_filter.mp z).2]) (by rw [List.map_cons, List.nodup_cons]; exact ⟨fun z => by obtain ⟨d, hd, ed⟩ := List.mem_map.mp z; exact hnew d (List.mem_filter.mp hd).1 ed, hinjE.sublist ((List.filter_sublist).map _)⟩)) hm2 rfl rfl q1352 q1353 (Or.inl q1354) q21 q1355 nk_J4_treeifyBin rfl (by decide) (by first | exact Nat.le_of_ble_eq_true rfl | simp [Value.category, cat_rf]) (by omega) (by omega) dJ4_putVal_169 rfl ZX.no (fun v w3 hr => ?_)
        obtain ⟨rfl, C3, f3, r1, r2, r3, r4, r5, r6⟩ := hr
        refine Z.goto (tgt := 222) ok dJ4_putVal_172 (by decide) ?_
        refine Z.aload ok dJ4_putVal_222 rfl (by first | exact isRf.r _ | exact isRf.n | exact isRf.v _ | assumption) ?_
        refine Z.ifnullN (tgt := 259) ok dJ4_putVal_224 (by decide) ?_
        have hT3 : HT g w3 T e f3 ((hh, kk, vv) :: E) := by
          refine hT.ins (d := (hh, kk, vv)) hCbin (Or.inr r1) r3 r5 r4 (fun b h1 h2 h3 => ?_)
          have h4 := hF3 b h1 h3
          rw [r6 b h2 (by rw [h4]; exact h3), h4]
        have hm3 := r6 m (fun z => by rw [z, hT.1] at hm; cases hm) (by rw [hm2]; exact Option.some_ne_none _)
        refine kont w3 T e f3 _ _ _ _ _ _ _ _ _ _ _ he4 hcap hthr hT3 (hm3.trans hm2) (hF4.tr (fun b y t hb _ h5 => ?_))
        rw [r6 b (fun z => by rw [z, hTt] at hb; cases hb; exact h5 rfl) (by rw [hb]; exact Option.some_ne_none _)]
        exact hb
      · have ts : 2 ^ (e + 1) = 2 ^ e * 2 := Nat.pow_succ ..
        have h32 : 2 ^ (e + 1) ≤ 64 := by
          have : e < 6 := by
            refine Nat.lt_of_not_le (fun z => ?_)
            have := Nat.pow_le_pow_right (n := 2) (by omega) z
            omega
          have := Nat.pow_le_pow_right (n := 2) (by omega) (show e + 1 ≤ 6 by omega)
          omega
        refine Z.room (kc' := E.length + 2 + (1 + ((hh, kk, vv) :: E).length)) (ks' := 7 * E.length + 7 + (2 ^ (e + 1) + 4 * ((hh, kk, vv) :: E).length)) (by simp; omega) (by simp; omega) ?_
        refine Z.callV (kc' := (E.length+2)) (ks' := (7*E.length+7)) (ci := 7) (q := (RJ4, TJ4, 8)) (C := RJ4) ok (tfbinR_ct (E := (hh, kk, vv) :: E) he4 (by omega) hm2 hT2 hinj (by simp; omega)) hm2 rfl rfl q1352 q1353 (Or.inl q1354) q21 q1355 nk_J4_treeifyBin rfl (by decide) (by first | exact Nat.le_of_ble_eq_true rfl | simp [Value.category, cat_rf]) (by omega) (by omega) dJ4_putVal_169 rfl ZX.no (fun v w3 hr => ?_)
        obtain ⟨rfl, o', T', f', -, r1, r2, r3⟩ := hr
        refine Z.goto (tgt := 222) ok dJ4_putVal_172 (by decide) ?_
        refine Z.aload ok dJ4_putVal_222 rfl (by first | exact isRf.r _ | exact isRf.n | exact isRf.v _ | assumption) ?_
        refine Z.ifnullN (tgt := 259) ok dJ4_putVal_224 (by decide) ?_
        have q1 : e + 1 - 2 = e - 1 := by omega
        have q2 : 2 ^ (e - 1) = 2 ^ (e - 2) * 2 := by rw [← Nat.pow_succ]; congr 1; omega
        exact kont w3 T' (e + 1) f' _ _ _ _ _ _ _ _ _ _ _ (by omega) (Or.inl h32) (by rw [q1]; omega) r1 (by rw [q1]; exact r2) (hF4.tr r3)
  | cons p2 r ih =>
    intro p D l8 l10 l11 hD
    have tp : (fun a => a ∈ C) p := by show p ∈ C; rw [hD]; simp
    have tp2 : (fun a => a ∈ C) p2 := by show p2 ∈ C; rw [hD]; simp
    have hx : nx p = some p2 := by
      rw [hD, seg_app] at hseg
      exact hseg.2.1
    refine Z.aload ok dJ4_putVal_134 rfl (by first | exact isRf.r _ | exact isRf.n | exact isRf.v _ | assumption) ?_
    refine Z.get (ci := 8) (C := RJ26) (T := TJ26) (N := 4) ok (hN _ tp) rfl in_J26 3 (by decide) q1278 (Or.inl rfl) (by rfl) dJ4_putVal_136 ?_
    rw [hx]
    refine Z.dup ok dJ4_putVal_139 (by first | rfl | exact cat_rf _) ?_
    refine Z.astore ok dJ4_putVal_140 (by decide) (by first | exact isRf.r _ | exact isRf.n | exact isRf.v _ | assumption) ?_
    refine Z.ifnonnullR (tgt := 175) ok dJ4_putVal_142 (by decide) ?_
    refine Z.aload ok dJ4_putVal_175 rfl (by first | exact isRf.r _ | exact isRf.n | exact isRf.v _ | assumption) ?_
    refine Z.get (ci := 8) (C := RJ26) (T := TJ26) (N := 4) ok (hN _ tp2) rfl in_J26 0 (by decide) q1267 (Or.inl rfl) (by rfl) dJ4_putVal_177 ?_
    refine Z.iload_n ok dJ4_putVal_180 rfl ?_
    refine Z.icmp_ne (tgt := 212) ok dJ4_putVal_181 (by decide) (fun _ => ?_) (fun hc => absurd hc (hne p2 tp2))
    refine Z.aload ok dJ4_putVal_212 rfl (by first | exact isRf.r _ | exact isRf.n | exact isRf.v _ | assumption) ?_
    refine Z.astore ok dJ4_putVal_214 (by decide) (by first | exact isRf.r _ | exact isRf.n | exact isRf.v _ | assumption) ?_
    refine Z.iinc ok dJ4_putVal_216 rfl rfl ?_
    refine Z.goto (tgt := 134) ok dJ4_putVal_219 (by decide) ?_
    have e3 : nI D.length + Int32.ofInt 1 = nI (D ++ [p]).length := by rw [List.length_append]; exact nI_1 _
    have hk := ih p2 (D ++ [p]) l8 (some (.ref p2)) l11 (by rw [hD]; simp)
    rw [← e3] at hk
    exact hk
end PUT2
