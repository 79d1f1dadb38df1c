/-! ===== HASHMAP: resize, walked ===== -/
def cntB (e j : Nat) (E : List Dt) : Nat := (E.filter (fun d => decide (j ≤ ix e d.1))).length
theorem cnt_step (e j : Nat) : ∀ E : List Dt, cntB e j E = (E.filter (inBk e j)).length + cntB e (j + 1) E
  | [] => rfl
  | d :: E => by
    have ih := cnt_step e j E
    unfold cntB at ih ⊢
    by_cases h1 : ix e d.1 = j
    · have h2 : inBk e j d = true := decide_eq_true h1
      have h3 : decide (j ≤ ix e d.1) = true := decide_eq_true (by omega)
      have h4 : decide (j + 1 ≤ ix e d.1) = false := decide_eq_false (by omega)
      simp only [List.filter_cons, h2, h3, h4, if_true, List.length_cons]
      simp
      omega
    · have h2 : inBk e j d = false := decide_eq_false h1
      by_cases h5 : j ≤ ix e d.1
      · have h3 : decide (j ≤ ix e d.1) = true := decide_eq_true h5
        have h4 : decide (j + 1 ≤ ix e d.1) = true := decide_eq_true (by omega)
        simp only [List.filter_cons, h2, h3, h4, if_true, List.length_cons]
        simp
        omega
      · have h3 : decide (j ≤ ix e d.1) = false := decide_eq_false h5
        have h4 : decide (j + 1 ≤ ix e d.1) = false := decide_eq_false (by omega)
        simp only [List.filter_cons, h2, h3, h4]
        simpa using ih
theorem cnt_0 (e : Nat) (E : List Dt) : cntB e 0 E = E.length := by
  unfold cntB
  rw [List.filter_eq_self.mpr (fun d _ => decide_eq_true (Nat.zero_le _))]
section RZ2
variable {g : Gx} {w0 : Wd} {m T T2 e : Nat} {fsm : List Value} {f : Nat → Option Nat} {E : List Dt}
theorem rz_body {x : Cx} {w : Wd} {j : Nat} {kc ks : Nat} {l3 l5 : Value} {l8 l9 l10 l11 l12 l13 : Option Value} (ok : OK g x RJ4 cJ4_resize 14 5 (some (.array (.object "java/util/HashMap$Node")))) (he : e < 28) (hj : j < 2 ^ e) (hinj : (E.map (fun d => d.1)).Nodup) (hlen : E.length < 2 ^ 30) (h : RZ g w0 w m T T2 e fsm f E j)
    (kont : ∀ (w' : Wd) (l8 l9 l10 l11 l12 l13 : Option Value), RZ g w0 w' m T T2 e fsm f E (j + 1) → Z g x 14 347 [some (.ref m), some (.ref T), some (.int (nI (2 ^ e))), some l3, some (.int (nI (2 ^ (e + 1)))), some l5, some (.ref T2), some (.int (nI j)), l8, l9, l10, l11, l12, l13] [] w' kc ks) : Z g x 14 157 [some (.ref m), some (.ref T), some (.int (nI (2 ^ e))), some l3, some (.int (nI (2 ^ (e + 1)))), some l5, some (.ref T2), some (.int (nI j)), l8, l9, l10, l11, l12, l13] [] w (kc + (E.filter (inBk e j)).length) (ks + 4 * (E.filter (inBk e j)).length) := by
  have h0 := h
  obtain ⟨hne, hm, ⟨fo, hfo, h3⟩, ⟨fn, hfn, h5, h6⟩, h7, h8⟩ := h
  have t1 := two_lt (e := e) (by omega)
  have t2 := two_lt (e := e + 1) (by omega)
  have tp := Nat.two_pow_pos e
  have ts : 2 ^ (e + 1) = 2 ^ e + 2 ^ e := by rw [Nat.pow_succ]; omega
  obtain ⟨C, c1, c2⟩ := h7 j (Nat.le_refl _) hj
  obtain ⟨n1, n2⟩ := h5 j (Nat.le_refl _) hj
  have hjj : j ≠ j + 2 ^ e := by omega
  refine Z.aload_n ok dJ4_resize_157 rfl (by first | exact isRf.r _ | exact isRf.n | exact isRf.v _ | assumption) ?_
  refine Z.iload ok dJ4_resize_158 rfl ?_
  refine Z.nald ok hfo (vp_in_nI hj (by omega)) dJ4_resize_160 ?_
  rw [nI_clamp (by omega), h3 j (Nat.le_refl _) hj, c1]
  refine Z.dup ok dJ4_resize_161 (by first | rfl | exact cat_rf _) ?_
  refine Z.astore ok dJ4_resize_162 (by decide) (by first | exact isRf.r _ | exact isRf.n | exact isRf.v _ | assumption) ?_
  cases C with
  | nil =>
    refine Z.ifnullN (tgt := 347) ok dJ4_resize_164 (by decide) ?_
    have hds : E.filter (inBk e j) = [] := by
      have := c2.len
      exact List.eq_nil_of_length_eq_zero this.symm
    refine Z.room (kc' := kc) (ks' := ks) (by omega) (by omega) ?_
    refine kont w _ _ _ _ _ _ (h0.step (by omega) hj c2 hfo hfn (C1 := []) (C2 := []) (fo' := fo) (fn' := fn) ?_ ?_ hfo (fun _ _ => rfl) hfn n1 n2 (fun _ _ _ => rfl) (fun _ _ _ _ _ => rfl))
    · rw [hds]
      exact Bin.nil
    · rw [hds]
      exact Bin.nil
  | cons c r =>
    have hTC := c2.nT hfo
    have hT2C := c2.nT hfn
    have hmC : m ∉ c :: r := fun q => by
      obtain ⟨d, -, hn⟩ := c2.nd q
      rcases hn with ⟨_, hn⟩ | ⟨_, _, _, hn⟩ <;> rw [hm] at hn <;> cases hn
    have hmT : m ≠ T := fun q => by rw [q, hfo] at hm; cases hm
    have hmT2 : m ≠ T2 := fun q => by rw [q, hfn] at hm; cases hm
    have hds : ∀ d, d ∈ E.filter (inBk e j) → ix e d.1 = j := fun d hd => of_decide_eq_true (List.mem_filter.mp hd).2
    have hix1 : ∀ d, d ∈ E.filter (inBk e j) → loB (2 ^ e) d = true → ix (e + 1) d.1 = j := fun d hd hl => by
      rw [(ix_succ (by omega) d.1).1 (of_decide_eq_true hl)]
      exact hds d hd
    have hix2 : ∀ d, d ∈ E.filter (inBk e j) → loB (2 ^ e) d = false → ix (e + 1) d.1 = j + 2 ^ e := fun d hd hl => by
      rw [(ix_succ (by omega) d.1).2 (of_decide_eq_false hl), hds d hd]
    have hinj2 : ((E.filter (inBk e j)).map (fun d => d.1)).Nodup := hinj.sublist ((List.filter_sublist).map _)
    have hlen2 : (E.filter (inBk e j)).length < 2 ^ 30 := Nat.lt_of_le_of_lt (List.length_filter_le _ _) hlen
    refine Z.ifnullR ok dJ4_resize_164 ?_
    refine Z.aload_n ok dJ4_resize_167 rfl (by first | exact isRf.r _ | exact isRf.n | exact isRf.v _ | assumption) ?_
    refine Z.iload ok dJ4_resize_168 rfl ?_
    refine Z.null ok dJ4_resize_170 ?_
    refine Z.nastN ok hfo (by decide) (vp_in_nI hj (by omega)) dJ4_resize_171 ?_
    rw [nI_clamp (by omega)]
    have g1 : wset w T (eN g (2 ^ e) (va_up fo j none)) 5 T = some (eN g (2 ^ e) (va_up fo j none), 5) := ws_s
    have g2 : ∀ b, b ≠ T → wset w T (eN g (2 ^ e) (va_up fo j none)) 5 b = w b := fun b hb => ws_n hb
    have g3 : ∀ i, i ≠ j → va_up fo j none i = fo i := fun i hi => if_neg hi
    generalize wset w T (eN g (2 ^ e) (va_up fo j none)) 5 = w1 at g1 g2 ⊢
    generalize va_up fo j none = fo1 at g1 g3
    have hm1 := (g2 m hmT).trans hm
    have hfn1 := (g2 T2 (Ne.symm hne)).trans hfn
    have c3 : Bin w1 (c :: r) (E.filter (inBk e j)) := c2.keep (fun b hb => g2 b (fun q => hTC (by rw [← q]; exact hb)))
    -- a bin of one node
    have single : r = [] → ∀ (hh : Int32) (ci : Nat) (fs : List Value) (rr : vw_C) (l9 l10 l11 l12 l13 : Option Value), isNd w1 c hh → w1 c = some (ob ci fs, 5) → clA[ci]? = some rr → ("java/util/HashMap$Node" = rr.1 ∨ Cond.castable rr.1 "java/util/HashMap$Node" ∈ lw_tbl) → Z g x 14 194 [some (.ref m), some (.ref T), some (.int (nI (2 ^ e))), some l3, some (.int (nI (2 ^ (e + 1)))), some l5, some (.ref T2), some (.int (nI j)), some (.ref c), l9, l10, l11, l12, l13] [.ref c, .int (hh &&& (nI (2 ^ (e + 1)) - 1)), .ref T2] w1 kc ks := by
      intro hr hh ci fs rr l9 l10 l11 l12 l13 hnd hwc hci hca
      subst hr
      rw [ix_maskC (by omega)]
      refine Z.nast ok hfn1 (by decide) hwc hci (hca.imp Eq.symm id) (vp_in_nI (ix_lt _ _) (by omega)) dJ4_resize_194 ?_
      rw [nI_clamp (Nat.lt_trans (ix_lt _ _) (by omega))]
      refine Z.goto (tgt := 347) ok dJ4_resize_195 (by decide) ?_
      obtain ⟨d, hd, hdn⟩ := c3.nd (b := c) (by simp)
      have ed := hdn.uniq hnd
      have hl1 := c3.len
      have hE : E.filter (inBk e j) = [d] := by
        cases hq : E.filter (inBk e j) with
        | nil => rw [hq] at hd; cases hd
        | cons a l =>
          rw [hq] at hl1 hd
          have : l = [] := List.eq_nil_of_length_eq_zero (by simpa using hl1.symm)
          subst this
          simp at hd
          rw [hd]
      have hkeep : ∀ ds, Bin w1 [c] ds → Bin (wset w1 T2 (eN g (2 ^ (e + 1)) (va_up fn (ix (e + 1) hh) (some c))) 5) [c] ds := fun ds hb => hb.keep (fun b hb => ws_n (fun q => hT2C (by rw [← q]; exact hb)))
      have hF : ∀ b, b ∉ [c] → b ≠ T → b ≠ T2 → w b ≠ none → wset w1 T2 (eN g (2 ^ (e + 1)) (va_up fn (ix (e + 1) hh) (some c))) 5 b = w b := fun b _ h1 h2 _ => (ws_n h2).trans (g2 b h1)
      cases hlo : loB (2 ^ e) d with
      | true =>
        have e1 := hix1 d hd hlo
        rw [ed] at e1
        rw [e1] at hkeep hF ⊢
        have q1 : (E.filter (inBk e j)).filter (loB (2 ^ e)) = E.filter (inBk e j) := by rw [hE]; simp [hlo]
        have q2 : (E.filter (inBk e j)).filter (fun d => !loB (2 ^ e) d) = [] := by rw [hE]; simp [hlo]
        refine kont _ _ _ _ _ _ _ (h0.step (by omega) hj c2 hfo hfn (C1 := [c]) (C2 := []) (fo' := fo1) (fn' := va_up fn j (some c)) ?_ ?_ ((ws_n hne).trans g1) g3 ws_s (if_pos rfl) ((if_neg (Ne.symm hjj)).trans n2) (fun i hi _ => if_neg hi) hF)
        · rw [q1]
          exact hkeep _ c3
        · rw [q2]
          exact Bin.nil
      | false =>
        have e1 := hix2 d hd hlo
        rw [ed] at e1
        rw [e1] at hkeep hF ⊢
        have q1 : (E.filter (inBk e j)).filter (loB (2 ^ e)) = [] := by rw [hE]; simp [hlo]
        have q2 : (E.filter (inBk e j)).filter (fun d => !loB (2 ^ e) d) = E.filter (inBk e j) := by rw [hE]; simp [hlo]
        refine kont _ _ _ _ _ _ _ (h0.step (by omega) hj c2 hfo hfn (C1 := []) (C2 := [c]) (fo' := fo1) (fn' := va_up fn (j + 2 ^ e) (some c)) ?_ ?_ ((ws_n hne).trans g1) g3 ws_s ((if_neg hjj).trans n1) (if_pos rfl) (fun i _ hi => if_neg hi) hF)
        · rw [q1]
          exact Bin.nil
        · rw [q2]
          exact hkeep _ c3
    rcases id c3 with ⟨h, k, v, nx, hN, hseg, hnd, hp⟩ | ⟨h, k, v, nx, P, L, R, pv, rd, root, lo, hi, hT, hseg, hsep, hnd, hp, H⟩
    · have tc : (fun a => a ∈ c :: r) c := by simp
      refine Z.aload ok dJ4_resize_172 rfl (by first | exact isRf.r _ | exact isRf.n | exact isRf.v _ | assumption) ?_
      refine Z.get (ci := 8) (C := RJ26) (T := TJ26) (N := 4) ok (hN _ tc) rfl in_J26 3 (by decide) q1278 (Or.inl rfl) (by rfl) dJ4_resize_174 ?_
      rw [hseg.1]
      refine Z.ifnonnull (tgt := 198) ok dJ4_resize_177 (by decide) (fun r0 hr => ?_) (fun hr => ?_)
      · refine Z.aload ok dJ4_resize_198 rfl (by first | exact isRf.r _ | exact isRf.n | exact isRf.v _ | assumption) ?_
        refine Z.instNo (ci := 8) (q := (RJ26, TJ26, 4)) ok (hN _ tc) rfl (by decide +kernel) q710 dJ4_resize_200 ?_
        refine Z.if_eq (tgt := 223) ok dJ4_resize_203 (by decide) (fun _ => ?_) (fun hc => absurd rfl hc)
        refine Z.null ok dJ4_resize_223 ?_
        refine Z.astore ok dJ4_resize_224 (by decide) (by first | exact isRf.r _ | exact isRf.n | exact isRf.v _ | assumption) ?_
        refine Z.null ok dJ4_resize_226 ?_
        refine Z.astore ok dJ4_resize_227 (by decide) (by first | exact isRf.r _ | exact isRf.n | exact isRf.v _ | assumption) ?_
        refine Z.null ok dJ4_resize_229 ?_
        refine Z.astore ok dJ4_resize_230 (by decide) (by first | exact isRf.r _ | exact isRf.n | exact isRf.v _ | assumption) ?_
        refine Z.null ok dJ4_resize_232 ?_
        refine Z.astore ok dJ4_resize_233 (by decide) (by first | exact isRf.r _ | exact isRf.n | exact isRf.v _ | assumption) ?_
        refine rz_plain (h := h) (k := k) (v := v) (nx := nx) (w0 := w1) (B := c :: r) (pl := fun a => decide (h a &&& nI (2 ^ e) = 0)) (ph := fun a => !decide (h a &&& nI (2 ^ e) = 0)) ok (fun _ => rfl) (fun _ => rfl) hseg hnd ?_ r c [] w1 _ rfl ⟨nx, hN, FrB.rf, ⟨none, trivial⟩, ⟨none, trivial⟩, fun _ _ => rfl⟩
        intro w2 l13 hS
        obtain ⟨nx', hN2, hB2, ⟨z1, s1⟩, ⟨z2, s2⟩, -⟩ := hS
        have e1 : ((c :: r).filter (fun a => decide (h a &&& nI (2 ^ e) = 0))).map (dat h k v) = ((c :: r).map (dat h k v)).filter (loB (2 ^ e)) := by rw [List.filter_map]; rfl
        have e2 : ((c :: r).filter (fun a => !decide (h a &&& nI (2 ^ e) = 0))).map (dat h k v) = ((c :: r).map (dat h k v)).filter (fun d => !loB (2 ^ e) d) := by rw [List.filter_map]; rfl
        have p1 : (((c :: r).filter (fun a => decide (h a &&& nI (2 ^ e) = 0))).map (dat h k v)).Perm ((E.filter (inBk e j)).filter (loB (2 ^ e))) := by rw [e1]; exact hp.filter _
        have p2 : (((c :: r).filter (fun a => !decide (h a &&& nI (2 ^ e) = 0))).map (dat h k v)).Perm ((E.filter (inBk e j)).filter (fun d => !loB (2 ^ e) d)) := by rw [e2]; exact hp.filter _
        have m1 : ∀ a, a ∈ (c :: r).filter (fun a => decide (h a &&& nI (2 ^ e) = 0)) → a ∈ c :: r ∧ h a &&& nI (2 ^ e) = 0 := fun a ha => ⟨(List.mem_filter.mp ha).1, of_decide_eq_true (List.mem_filter.mp ha).2⟩
        have m2 : ∀ a, a ∈ (c :: r).filter (fun a => !decide (h a &&& nI (2 ^ e) = 0)) → a ∈ c :: r ∧ ¬ h a &&& nI (2 ^ e) = 0 := fun a ha => ⟨(List.mem_filter.mp ha).1, by simpa using (List.mem_filter.mp ha).2⟩
        have nd1 : ((c :: r).filter (fun a => decide (h a &&& nI (2 ^ e) = 0))).Nodup := hnd.filter _
        have nd2 : ((c :: r).filter (fun a => !decide (h a &&& nI (2 ^ e) = 0))).Nodup := hnd.filter _
        generalize (c :: r).filter (fun a => decide (h a &&& nI (2 ^ e) = 0)) = lol at s1 p1 m1 nd1 ⊢
        generalize (c :: r).filter (fun a => !decide (h a &&& nI (2 ^ e) = 0)) = hil at s2 p2 m2 nd2 ⊢
        clear e1 e2 hN
        refine Z.room (kc' := kc) (ks' := ks) (by omega) (by omega) ?_
        have key3 : ∀ (w4 : Wd) (nx4 fn4 : Nat → Option Nat) (l8 l9 l10 l11 l12 l13 : Option Value), NW w4 (fun a => a ∈ c :: r) h k v nx4 → (∀ b, b ∉ c :: r → b ≠ T2 → w4 b = w1 b) → w4 T2 = some (eN g (2 ^ (e + 1)) fn4, 5) → seg nx4 lol none → seg nx4 hil none → fn4 j = hd lol none → fn4 (j + 2 ^ e) = hd hil none → (∀ i, i ≠ j → i ≠ j + 2 ^ e → fn4 i = fn i) → Z g x 14 347 [some (.ref m), some (.ref T), some (.int (nI (2 ^ e))), some l3, some (.int (nI (2 ^ (e + 1)))), some l5, some (.ref T2), some (.int (nI j)), l8, l9, l10, l11, l12, l13] [] w4 kc ks := by
          intro w4 nx4 fn4 l8 l9 l10 l11 l12 l13 hN4 hF4 hT4 q1 q2 q3 q4 q5
          refine kont w4 _ _ _ _ _ _ (h0.step (by omega) hj c2 hfo hfn (Or.inl ⟨h, k, v, nx4, fun a ha => hN4 a (m1 a ha).1, q1, nd1, p1⟩) (Or.inl ⟨h, k, v, nx4, fun a ha => hN4 a (m2 a ha).1, q2, nd2, p2⟩) ((hF4 T hTC hne).trans g1) g3 hT4 q3 q4 q5 (fun b h1 h2 h3 _ => (hF4 b h1 h3).trans (g2 b h2)))
        have key2 : ∀ (w3 : Wd) (nx3 fn3 : Nat → Option Nat) (l8 l9 l10 l13 : Option Value), NW w3 (fun a => a ∈ c :: r) h k v nx3 → (∀ b, b ∉ c :: r → b ≠ T2 → w3 b = w1 b) → w3 T2 = some (eN g (2 ^ (e + 1)) fn3, 5) → seg nx3 lol none → (∃ z, seg nx3 hil z) → fn3 j = hd lol none → (∀ i, i ≠ j → fn3 i = fn i) → Z g x 14 327 [some (.ref m), some (.ref T), some (.int (nI (2 ^ e))), some l3, some (.int (nI (2 ^ (e + 1)))), some l5, some (.ref T2), some (.int (nI j)), l8, l9, l10, some (va_rf (hd hil none)), some (va_rf (lst hil none)), l13] [] w3 kc ks := by
          intro w3 nx3 fn3 l8 l9 l10 l13 hN3 hF3 hT3 q1 q2 q3 q4
          refine Z.aload ok dJ4_resize_327 rfl (by first | exact isRf.r _ | exact isRf.n | exact isRf.v _ | assumption) ?_
          by_cases hh : hil = []
          · subst hh
            refine Z.ifnullN (tgt := 347) ok dJ4_resize_329 (by decide) ?_
            exact key3 w3 nx3 fn3 _ _ _ _ _ _ hN3 hF3 hT3 q1 trivial q3 ((q4 _ (Ne.symm hjj)).trans n2) (fun i hi _ => q4 i hi)
          · obtain ⟨C0, t, et, elt⟩ := lst_snoc hh
            obtain ⟨z, q2⟩ := q2
            have tm : t ∈ hil := by rw [et]; simp
            have tt : (fun a => a ∈ c :: r) t := (m2 t tm).1
            obtain ⟨ch, hch⟩ : ∃ ch, hd hil none = some ch := by
              cases hil with
              | nil => exact absurd rfl hh
              | cons a q => exact ⟨a, rfl⟩
            have hchm : ch ∈ hil := by
              cases hil with
              | nil => cases hch
              | cons a q => cases hch; simp
            rw [elt]
            refine Z.ifnullR ok dJ4_resize_329 ?_
            have hN := hN3
            have hB : FrB (fun a => a ∈ c :: r) w3 w3 := FrB.rf
            refine Z.aload ok dJ4_resize_332 rfl (by first | exact isRf.r _ | exact isRf.n | exact isRf.v _ | assumption) ?_
            refine Z.null ok dJ4_resize_334 ?_
            refine Z.put (ci := 8) (C := RJ26) (T := TJ26) (N := 4) (ty0 := tyJ26) ok (by exact hN _ tt) (by first | decide | assumption) rfl in_J26 tyJ26_ok nmJ26 3 (by decide) q1278 (Or.inl rfl) rfl (okV_o (by first | exact isRf.r _ | exact isRf.n | exact isRf.v _ | assumption)) (by rfl) dJ4_resize_335 ?_
            refine Z.nw_nx (none) hN hB tt (fun w4 hN hB => ?_)
            refine Z.aload ok dJ4_resize_338 rfl (by first | exact isRf.r _ | exact isRf.n | exact isRf.v _ | assumption) ?_
            refine Z.iload ok dJ4_resize_340 rfl ?_
            refine Z.iload_n ok dJ4_resize_342 rfl ?_
            refine Z.iadd ok dJ4_resize_343 ?_
            refine Z.aload ok dJ4_resize_344 rfl (by first | exact isRf.r _ | exact isRf.n | exact isRf.v _ | assumption) ?_
            rw [nI_add, hch]
            have hT2m : ¬ (fun a => a ∈ c :: r) T2 := hT2C
            refine Z.nast ok ((hB T2 hT2m).trans hT3) (by decide) (hN ch (m2 ch hchm).1) rfl (Or.inl rfl) (vp_in_nI (by omega) (by omega)) dJ4_resize_346 ?_
            rw [nI_clamp (by omega)]
            have q2' := q2
            rw [et] at q2'
            refine key3 _ (up1 nx3 t none) (va_up fn3 (j + 2 ^ e) (some ch)) _ _ _ _ _ _ (fun a ha => (ws_n (fun q => hT2C (by rw [← q]; exact ha))).trans (hN a ha)) (fun b h1 h2 => (ws_n h2).trans ((hB b h1).trans (hF3 b h1 h2))) ws_s (seg_eq (fun a ha => up1_n (fun q => (m2 t tm).2 (by rw [← q]; exact (m1 a ha).2))) q1) (by rw [et] at nd2 ⊢; exact seg_end q2' nd2) ((if_neg hjj).trans q3) ((if_pos rfl).trans hch.symm) (fun i h1 h2 => (if_neg h2).trans (q4 i h1))
        have hT2w : w2 T2 = some (eN g (2 ^ (e + 1)) fn, 5) := (hB2 T2 hT2C).trans hfn1
        refine Z.aload ok dJ4_resize_309 rfl (by first | exact isRf.r _ | exact isRf.n | exact isRf.v _ | assumption) ?_
        by_cases hh : lol = []
        · subst hh
          refine Z.ifnullN (tgt := 327) ok dJ4_resize_311 (by decide) ?_
          exact key2 w2 nx' fn _ _ _ _ hN2 (fun b h1 _ => hB2 b h1) hT2w trivial ⟨z2, s2⟩ n1 (fun _ _ => rfl)
        · obtain ⟨C0, t, et, elt⟩ := lst_snoc hh
          have tm : t ∈ lol := by rw [et]; simp
          have tt : (fun a => a ∈ c :: r) t := (m1 t tm).1
          obtain ⟨ch, hch⟩ : ∃ ch, hd lol none = some ch := by
            cases lol with
            | nil => exact absurd rfl hh
            | cons a q => exact ⟨a, rfl⟩
          have hchm : ch ∈ lol := by
            cases lol with
            | nil => cases hch
            | cons a q => cases hch; simp
          rw [elt]
          refine Z.ifnullR ok dJ4_resize_311 ?_
          have hN := hN2
          have hB : FrB (fun a => a ∈ c :: r) w2 w2 := FrB.rf
          refine Z.aload ok dJ4_resize_314 rfl (by first | exact isRf.r _ | exact isRf.n | exact isRf.v _ | assumption) ?_
          refine Z.null ok dJ4_resize_316 ?_
          refine Z.put (ci := 8) (C := RJ26) (T := TJ26) (N := 4) (ty0 := tyJ26) ok (by exact hN _ tt) (by first | decide | assumption) rfl in_J26 tyJ26_ok nmJ26 3 (by decide) q1278 (Or.inl rfl) rfl (okV_o (by first | exact isRf.r _ | exact isRf.n | exact isRf.v _ | assumption)) (by rfl) dJ4_resize_317 ?_
          refine Z.nw_nx (none) hN hB tt (fun w3 hN hB => ?_)
          refine Z.aload ok dJ4_resize_320 rfl (by first | exact isRf.r _ | exact isRf.n | exact isRf.v _ | assumption) ?_
          refine Z.iload ok dJ4_resize_322 rfl ?_
          refine Z.aload ok dJ4_resize_324 rfl (by first | exact isRf.r _ | exact isRf.n | exact isRf.v _ | assumption) ?_
          rw [hch]
          have hT2m : ¬ (fun a => a ∈ c :: r) T2 := hT2C
          refine Z.nast ok ((hB T2 hT2m).trans hT2w) (by decide) (hN ch (m1 ch hchm).1) rfl (Or.inl rfl) (vp_in_nI (by omega) (by omega)) dJ4_resize_326 ?_
          rw [nI_clamp (by omega)]
          have s1' := s1
          rw [et] at s1'
          refine key2 _ (up1 nx' t none) (va_up fn j (some ch)) _ _ _ _ (fun a ha => (ws_n (fun q => hT2C (by rw [← q]; exact ha))).trans (hN a ha)) (fun b h1 h2 => (ws_n h2).trans ((hB b h1).trans (hB2 b h1))) ws_s (by rw [et] at nd1 ⊢; exact seg_end s1' nd1) ⟨z2, seg_eq (fun a ha => up1_n (fun q => (m2 a ha).2 (by rw [q]; exact (m1 t tm).2))) s2⟩ ((if_pos rfl).trans hch.symm) (fun i h1 => if_neg h1)
      · have hr0 := hd_none hr
        refine Z.aload ok dJ4_resize_180 rfl (by first | exact isRf.r _ | exact isRf.n | exact isRf.v _ | assumption) ?_
        refine Z.aload ok dJ4_resize_182 rfl (by first | exact isRf.r _ | exact isRf.n | exact isRf.v _ | assumption) ?_
        refine Z.get (ci := 8) (C := RJ26) (T := TJ26) (N := 4) ok (hN _ tc) rfl in_J26 0 (by decide) q1267 (Or.inl rfl) (by rfl) dJ4_resize_184 ?_
        refine Z.iload ok dJ4_resize_187 rfl ?_
        refine Z.iconst_1 ok dJ4_resize_189 ?_
        refine Z.isub ok dJ4_resize_190 ?_
        refine Z.iand ok dJ4_resize_191 ?_
        refine Z.aload ok dJ4_resize_192 rfl (by first | exact isRf.r _ | exact isRf.n | exact isRf.v _ | assumption) ?_
        refine Z.room (kc' := kc) (ks' := ks) (by omega) (by omega) ?_
        exact single hr0 (h c) 8 _ _ _ _ _ _ _ (Or.inl ⟨_, hN c tc⟩) (hN c tc) rfl (Or.inl rfl)
    · have tc : (fun a => a ∈ c :: r) c := by simp
      refine Z.aload ok dJ4_resize_172 rfl (by first | exact isRf.r _ | exact isRf.n | exact isRf.v _ | assumption) ?_
      refine Z.get (ci := 9) (C := RJ28) (T := TJ28) (N := 11) ok (hT _ tc) rfl in_J28 5 (by decide) q1278 (Or.inl rfl) (by rfl) dJ4_resize_174 ?_
      rw [hseg.1]
      refine Z.ifnonnull (tgt := 198) ok dJ4_resize_177 (by decide) (fun r0 hr => ?_) (fun hr => ?_)
      · refine Z.aload ok dJ4_resize_198 rfl (by first | exact isRf.r _ | exact isRf.n | exact isRf.v _ | assumption) ?_
        refine Z.instS (ci := 9) (q := (RJ28, TJ28, 11)) ok (hT _ tc) rfl rfl q710 dJ4_resize_200 ?_
        refine Z.if_eq (tgt := 223) ok dJ4_resize_203 (by decide) (fun hc => absurd hc (by decide)) (fun _ => ?_)
        refine Z.aload ok dJ4_resize_206 rfl (by first | exact isRf.r _ | exact isRf.n | exact isRf.v _ | assumption) ?_
        refine Z.castS (ci := 9) (q := (RJ28, TJ28, 11)) ok (hT _ tc) rfl rfl q710 dJ4_resize_208 ?_
        refine Z.aload_n ok dJ4_resize_211 rfl (by first | exact isRf.r _ | exact isRf.n | exact isRf.v _ | assumption) ?_
        refine Z.aload ok dJ4_resize_212 rfl (by first | exact isRf.r _ | exact isRf.n | exact isRf.v _ | assumption) ?_
        refine Z.iload ok dJ4_resize_214 rfl ?_
        refine Z.iload_n ok dJ4_resize_216 rfl ?_
        have hlenC := c3.len
        rw [← hlenC]
        refine Z.room (kc' := kc + (r.length + 1)) (ks' := ks + 4 * (r.length + 1)) (by simp) (by simp) ?_
        refine Z.callV (kc' := kc) (ks' := ks) (ci := 9) (q := (RJ28, TJ28, 11)) (C := RJ28) ok (split_ct (i := j) (bt := 2 ^ e) hm1 (by decide) hfn1 t2 (by omega) tp n1 n2 hT H hseg hnd hp (fun d hd hl => by rw [ix_mask (by omega), hix1 d hd hl]) (fun d hd hl => by rw [ix_mask (by omega), hix2 d hd hl]) hinj2 hlen2) (hT _ tc) rfl rfl q1246 q1247 (Or.inl q1248) q54 q1249 nk_J28_split rfl (by decide) (by first | exact Nat.le_of_ble_eq_true rfl | simp [Value.category, cat_rf]) (by omega) (by omega) dJ4_resize_217 rfl ZX.no (fun v w2 hr2 => ?_)
        obtain ⟨rfl, C1, C2, f', b1, b2, b3, b4, b5, b6, b7⟩ := hr2
        refine Z.goto (tgt := 347) ok dJ4_resize_220 (by decide) ?_
        refine kont w2 _ _ _ _ _ _ (h0.step (by omega) hj c2 hfo hfn b1 b2 ((b7 T hTC hne (by rw [g1]; exact Option.some_ne_none _)).trans g1) g3 b3 b4 b5 b6 (fun b h1 h2 h3 h4 => ?_))
        rw [b7 b h1 h3 (by rw [g2 b h2]; exact h4), g2 b h2]
      · have hr0 := hd_none hr
        refine Z.aload ok dJ4_resize_180 rfl (by first | exact isRf.r _ | exact isRf.n | exact isRf.v _ | assumption) ?_
        refine Z.aload ok dJ4_resize_182 rfl (by first | exact isRf.r _ | exact isRf.n | exact isRf.v _ | assumption) ?_
        refine Z.get (ci := 9) (C := RJ28) (T := TJ28) (N := 11) ok (hT _ tc) rfl in_J28 2 (by decide) q1267 (Or.inl rfl) (by rfl) dJ4_resize_184 ?_
        refine Z.iload ok dJ4_resize_187 rfl ?_
        refine Z.iconst_1 ok dJ4_resize_189 ?_
        refine Z.isub ok dJ4_resize_190 ?_
        refine Z.iand ok dJ4_resize_191 ?_
        refine Z.aload ok dJ4_resize_192 rfl (by first | exact isRf.r _ | exact isRf.n | exact isRf.v _ | assumption) ?_
        refine Z.room (kc' := kc) (ks' := ks) (by omega) (by omega) ?_
        exact single hr0 (h c) 9 _ _ _ _ _ _ _ (Or.inr ⟨_, _, _, hT c tc⟩) (hT c tc) rfl (Or.inr (q1658))
end RZ2
