/-! ===== TREE BINS: putTreeVal of a new key ===== -/
theorem chain_ins {nx pv : Nat → Option Nat} {B : List Nat} {p q : Nat} (h1 : seg nx B none) (h2 : sep pv B none) (hp : p ∈ B) (hnd : B.Nodup) (hq : q ∉ B) :
    ∃ X Y, B = X ++ p :: Y ∧ nx p = hd Y none ∧ (∀ y, hd Y none = some y → y ∈ B ∧ y ≠ p) ∧ seg (up1 (up1 nx q (hd Y none)) p (some q)) (X ++ p :: q :: Y) none ∧
    ∀ pv1 : Nat → Option Nat, (∀ b, hd Y none ≠ some b → b ≠ q → pv1 b = pv b) → pv1 q = some p → (∀ y, hd Y none = some y → pv1 y = some q) → sep pv1 (X ++ p :: q :: Y) none := by
  obtain ⟨X, Y, rfl⟩ := List.append_of_mem hp
  rw [seg_app] at h1
  rw [sep_app] at h2
  obtain ⟨s1, s2, s3⟩ := h1
  obtain ⟨t1, t2, t3⟩ := h2
  rw [List.nodup_append] at hnd
  obtain ⟨n1, n2, n3⟩ := hnd
  rw [List.nodup_cons] at n2
  have nq : ∀ a, a ∈ X ++ p :: Y → a ≠ q := fun a ha e => hq (by rw [← e]; exact ha)
  refine ⟨X, Y, rfl, s2, ?_, ?_, ?_⟩
  · intro y hy
    cases Y with
    | nil => cases hy
    | cons y' Y =>
      cases hy
      exact ⟨by simp, fun e => n2.1 (by simp [e])⟩
  · rw [seg_app]
    refine ⟨seg_eq (fun a ha => ?_) s1, up1_s, ?_, seg_eq (fun a ha => ?_) s3⟩
    · rw [up1_n (fun e => n3 a ha p (by simp) e), up1_n (nq a (by simp [ha]))]
    · rw [up1_n (fun e => nq p (by simp) e.symm), up1_s]
    · rw [up1_n (fun e => n2.1 (by rw [← e]; exact ha)), up1_n (nq a (by simp [ha]))]
  · intro pv1 p1 p2 p3
    have nY : ∀ a, a ∈ X ++ [p] → hd Y none ≠ some a := by
      intro a ha e
      cases Y with
      | nil => cases e
      | cons y Y =>
        cases e
        rcases List.mem_append.mp ha with h | h
        · exact n3 _ h _ (by simp) rfl
        · simp at h
          exact n2.1 (by simp [h])
    rw [sep_app]
    refine ⟨sep_eq (fun a ha => p1 a (nY a (by simp [ha])) (nq a (by simp [ha]))) t1, (p1 p (nY p (by simp)) (nq p (by simp))).trans t2, p2, ?_⟩
    cases Y with
    | nil => trivial
    | cons y Y =>
      refine ⟨p3 y rfl, sep_eq (fun a ha => p1 a (fun e => ?_) (nq a (by simp [ha]))) t3.2⟩
      cases e
      exact (List.nodup_cons.mp n2.2).1 ha
section PTV
variable {g : Gx} {w : Wd} {h : Nat → Int32} {k v : Nat → Nat} {nx P L R pv : Nat → Option Nat} {rd : Nat → Int32} {lo hi : Nat → Int} {root : Nat} {B : List Nat}
theorem ptv_in {x : Cx} {hh : Int32} {kc ks : Nat} {l0 l1 l2 l4 l5 : Value} (ok : OK g x RJ28 cJ28_putTreeVal 16 6 (some (.object "java/util/HashMap$TreeNode"))) (hT : TW w (fun a => a ∈ B) h k v nx P L R pv rd) (H : Tr (fun a => a ∈ B) root (fun a => (h a).toInt) P L R lo hi) (hne : ∀ a, a ∈ B → h a ≠ hh)
    (kL : ∀ (p : Nat) (l11 l12 l14 l15 : Option Value), p ∈ B → L p = none → lo p < hh.toInt → hh.toInt < (h p).toInt → Z g x 16 221 [some l0, some l1, some l2, some (.int hh), some l4, some l5, some .null, some (.int 0), some (.ref root), some .null, some (.int (-1)), l11, l12, some (.ref p), l14, l15] [] w kc ks)
    (kR : ∀ (p : Nat) (l11 l12 l14 l15 : Option Value), p ∈ B → R p = none → (h p).toInt < hh.toInt → hh.toInt < hi p → Z g x 16 221 [some l0, some l1, some l2, some (.int hh), some l4, some l5, some .null, some (.int 0), some (.ref root), some .null, some (.int 1), l11, l12, some (.ref p), l14, l15] [] w kc ks) : ∀ (n p : Nat) (l10 l11 l12 l13 l14 l15 : Option Value), p ∈ B → hi p - lo p ≤ (n : Int) → lo p < hh.toInt → hh.toInt < hi p → Z g x 16 27 [some l0, some l1, some l2, some (.int hh), some l4, some l5, some .null, some (.int 0), some (.ref root), some (.ref p), l10, l11, l12, l13, l14, l15] [] w kc ks
  | 0, p, l10, l11, l12, l13, l14, l15, sp, hn, b1, b2 => by omega
  | n + 1, p, l10, l11, l12, l13, l14, l15, sp, hn, b1, b2 => by
    have tp : (fun a => a ∈ B) p := sp
    have op := H.ord p sp
    have hey2 : (h p).toInt ≠ hh.toInt := fun e => hne p sp (Int32.toInt_inj.mp e)
    refine Z.aload ok dJ28_putTreeVal_27 rfl (by first | exact isRf.r _ | exact isRf.n | exact isRf.v _ | assumption) ?_
    refine Z.get (ci := 9) (C := RJ28) (T := TJ28) (N := 11) ok (hT _ tp) rfl in_J28 2 (by decide) q1265 (Or.inr q1266) (by rfl) dJ28_putTreeVal_29 ?_
    refine Z.dup ok dJ28_putTreeVal_32 (by first | rfl | exact cat_rf _) ?_
    refine Z.istore ok dJ28_putTreeVal_33 (by decide) ?_
    refine Z.iload_n ok dJ28_putTreeVal_35 rfl ?_
    by_cases c1 : h p ≤ hh
    · refine Z.icmp_le (tgt := 45) ok dJ28_putTreeVal_36 (by decide) (fun _ => ?_) (fun hc => absurd c1 hc)
      have c2 : (h p).toInt < hh.toInt := by have := i32le.mp c1; omega
      refine Z.iload ok dJ28_putTreeVal_45 rfl ?_
      refine Z.iload_n ok dJ28_putTreeVal_47 rfl ?_
      refine Z.icmp_ge (tgt := 57) ok dJ28_putTreeVal_48 (by decide) (fun hc => absurd hc (fun e => by have := i32le.mp e; omega)) (fun _ => ?_)
      refine Z.iconst_1 ok dJ28_putTreeVal_51 ?_
      refine Z.istore ok dJ28_putTreeVal_52 (by decide) ?_
      refine Z.goto (tgt := 193) ok dJ28_putTreeVal_54 (by decide) ?_
      refine Z.aload ok dJ28_putTreeVal_193 rfl (by first | exact isRf.r _ | exact isRf.n | exact isRf.v _ | assumption) ?_
      refine Z.astore ok dJ28_putTreeVal_195 (by decide) (by first | exact isRf.r _ | exact isRf.n | exact isRf.v _ | assumption) ?_
      refine Z.iload ok dJ28_putTreeVal_197 rfl ?_
      refine Z.if_gt (tgt := 210) ok dJ28_putTreeVal_199 (by decide) (fun _ => ?_) (fun hc => absurd (by decide) hc)
      refine Z.aload ok dJ28_putTreeVal_210 rfl (by first | exact isRf.r _ | exact isRf.n | exact isRf.v _ | assumption) ?_
      refine Z.get (ci := 9) (C := RJ28) (T := TJ28) (N := 11) ok (hT _ tp) rfl in_J28 8 (by decide) q1329 (Or.inl rfl) (by rfl) dJ28_putTreeVal_212 ?_
      refine Z.dup ok dJ28_putTreeVal_215 (by first | rfl | exact cat_rf _) ?_
      refine Z.astore ok dJ28_putTreeVal_216 (by decide) (by first | exact isRf.r _ | exact isRf.n | exact isRf.v _ | assumption) ?_
      refine Z.ifnonnull (tgt := 311) ok dJ28_putTreeVal_218 (by decide) (fun b hc => ?_) (fun hc => ?_)
      · rw [hc]
        refine Z.goto (tgt := 27) ok dJ28_putTreeVal_311 (by decide) ?_
        obtain ⟨d1, -, d3, d4⟩ := H.rg p b sp hc
        (try simp only [] at d3 d4 op)
        exact ptv_in ok hT H hne kL kR n b _ _ _ _ _ _ d1 (by omega) (by omega) (by omega)
      · rw [hc]
        exact kR p _ _ _ _ sp hc c2 b2
    · refine Z.icmp_le (tgt := 45) ok dJ28_putTreeVal_36 (by decide) (fun hc => absurd hc c1) (fun _ => ?_)
      have c2 : hh.toInt < (h p).toInt := Int.not_le.mp (fun e => c1 (i32le.mpr e))
      refine Z.iconst_m1 ok dJ28_putTreeVal_39 ?_
      refine Z.istore ok dJ28_putTreeVal_40 (by decide) ?_
      refine Z.goto (tgt := 193) ok dJ28_putTreeVal_42 (by decide) ?_
      refine Z.aload ok dJ28_putTreeVal_193 rfl (by first | exact isRf.r _ | exact isRf.n | exact isRf.v _ | assumption) ?_
      refine Z.astore ok dJ28_putTreeVal_195 (by decide) (by first | exact isRf.r _ | exact isRf.n | exact isRf.v _ | assumption) ?_
      refine Z.iload ok dJ28_putTreeVal_197 rfl ?_
      refine Z.if_gt (tgt := 210) ok dJ28_putTreeVal_199 (by decide) (fun hc => absurd hc (by decide)) (fun _ => ?_)
      refine Z.aload ok dJ28_putTreeVal_202 rfl (by first | exact isRf.r _ | exact isRf.n | exact isRf.v _ | assumption) ?_
      refine Z.get (ci := 9) (C := RJ28) (T := TJ28) (N := 11) ok (hT _ tp) rfl in_J28 7 (by decide) q1328 (Or.inl rfl) (by rfl) dJ28_putTreeVal_204 ?_
      refine Z.goto (tgt := 215) ok dJ28_putTreeVal_207 (by decide) ?_
      refine Z.dup ok dJ28_putTreeVal_215 (by first | rfl | exact cat_rf _) ?_
      refine Z.astore ok dJ28_putTreeVal_216 (by decide) (by first | exact isRf.r _ | exact isRf.n | exact isRf.v _ | assumption) ?_
      refine Z.ifnonnull (tgt := 311) ok dJ28_putTreeVal_218 (by decide) (fun b hc => ?_) (fun hc => ?_)
      · rw [hc]
        refine Z.goto (tgt := 27) ok dJ28_putTreeVal_311 (by decide) ?_
        obtain ⟨d1, -, d3, d4⟩ := H.lf p b sp hc
        (try simp only [] at d3 d4 op)
        exact ptv_in ok hT H hne kL kR n b _ _ _ _ _ _ d1 (by omega) (by omega) (by omega)
      · rw [hc]
        exact kL p _ _ _ _ sp hc b1 c2
theorem ptv_ct {m T n i tm y kk vv : Nat} {hh : Int32} {fsm : List Value} {f : Nat → Option Nat} {ds : List Dt} (hm : w m = some (ob 7 fsm, tm)) (htm : tm ≠ 5) (hTab : w T = some (eN g n f, 5)) (hn : n < 2 ^ 30) (hin : i < n) (hix : (nI n - 1) &&& hh = nI i) (hf : f i = hd B none) (hT : TW w (fun a => a ∈ B) h k v nx P L R pv rd) (H : Tr (fun a => a ∈ B) root (fun a => (h a).toInt) P L R lo hi) (hseg : seg nx B none) (hsep : sep pv B none) (hnd : B.Nodup) (hperm : (B.map (dat h k v)).Perm ds) (hixs : ∀ d, d ∈ ds → (nI n - 1) &&& d.1 = nI i) (hne : ∀ d, d ∈ ds → d.1 ≠ hh) (hy : y ∈ B) : Ct g yJ28_putTreeVal cJ28_putTreeVal 16 (some (.object "java/util/HashMap$TreeNode")) 6 1 11 [.ref y, .ref m, .ref T, .int hh, .ref kk, .ref vv] w (fun o w' => o = some .null ∧ ∃ C f', TBin w' C ((hh, kk, vv) :: ds) ∧ C ≠ [] ∧ w' T = some (eN g n f', 5) ∧ (∀ j, j ≠ i → f' j = f j) ∧ f' i = hd C none ∧ (∀ b, b ∉ B → b ≠ T → w b ≠ none → w' b = w b)) noX := by
  refine Ct.of RJ28 "putTreeVal" ⟨rfl, rfl⟩ (by decide +kernel) (by simp [Value.category] <;> exact cat_rf _) (Nat.le_of_ble_eq_true rfl) (fun x ok hQ hN => ?_)
  show Z g x 16 0 [some (.ref y), some (.ref m), some (.ref T), some (.int hh), some (.ref kk), some (.ref vv), none, none, none, none, none, none, none, none, none, none] [] w 1 11
  have hTB : T ∉ B := fun e => by rw [hT T e] at hTab; cases hTab
  have hne' : ∀ a, a ∈ B → h a ≠ hh := dat_all (Q := fun d => d.1 ≠ hh) hperm hne
  have hixs' : ∀ a, a ∈ B → (nI n - 1) &&& h a = nI i := dat_all (Q := fun d => (nI n - 1) &&& d.1 = nI i) hperm hixs
  have hb := i32bd hh
  have o0 := H.rlo
  have o1 := H.rhi
  have fin : ∀ (p : Nat) (l11 l12 l14 l15 : Option Value) (dir : Int32), p ∈ B → (dir = -1 ∧ L p = none ∧ lo p < hh.toInt ∧ hh.toInt < (h p).toInt ∨ dir = 1 ∧ R p = none ∧ (h p).toInt < hh.toInt ∧ hh.toInt < hi p) → Z g x 16 221 [some (.ref y), some (.ref m), some (.ref T), some (.int hh), some (.ref kk), some (.ref vv), some .null, some (.int 0), some (.ref root), some .null, some (.int dir), l11, l12, some (.ref p), l14, l15] [] w 1 11 := by
    intro p l11 l12 l14 l15 dir sp hdir
    have tp0 : (fun a => a ∈ B) p := sp
    refine Z.aload ok dJ28_putTreeVal_221 rfl (by first | exact isRf.r _ | exact isRf.n | exact isRf.v _ | assumption) ?_
    refine Z.get (ci := 9) (C := RJ28) (T := TJ28) (N := 11) ok (hT _ tp0) rfl in_J28 5 (by decide) q1275 (Or.inr q1276) (by rfl) dJ28_putTreeVal_223 ?_
    refine Z.astore ok dJ28_putTreeVal_226 (by decide) (by first | exact isRf.r _ | exact isRf.n | exact isRf.v _ | assumption) ?_
    refine Z.aload_n ok dJ28_putTreeVal_228 rfl (by first | exact isRf.r _ | exact isRf.n | exact isRf.v _ | assumption) ?_
    refine Z.iload_n ok dJ28_putTreeVal_229 rfl ?_
    refine Z.aload ok dJ28_putTreeVal_230 rfl (by first | exact isRf.r _ | exact isRf.n | exact isRf.v _ | assumption) ?_
    refine Z.aload ok dJ28_putTreeVal_232 rfl (by first | exact isRf.r _ | exact isRf.n | exact isRf.v _ | assumption) ?_
    refine Z.aload ok dJ28_putTreeVal_234 rfl (by first | exact isRf.r _ | exact isRf.n | exact isRf.v _ | assumption) ?_
    refine Z.callV (kc' := 0) (ks' := 0) (ci := 7) (q := (RJ4, TJ4, 8)) (C := RJ4) ok (newTNode_ct (m := m) (nn := nx p)) hm rfl rfl q1315 q1316 (Or.inl q1317) q21 q1318 nk_J4_newTreeNode rfl (by decide) (by first | exact Nat.le_of_ble_eq_true rfl | simp [Value.category, cat_rf]) (by omega) (by omega) dJ28_putTreeVal_236 rfl ZX.no (fun v w1 hr => ?_)
    obtain ⟨q, rfl, hq, hq1, ho⟩ := hr
    have hqB : q ∉ B := fun e => by rw [hT q e] at hq; cases hq
    have hqT : T ≠ q := fun e => by rw [e, hq] at hTab; cases hTab
    have hT1 := hT.new hqB hq1 ho
    obtain ⟨X, Y, eB, enx, hY, hseg', hsep'⟩ := chain_ins hseg hsep sp hnd hqB
    rw [enx] at hT1 ⊢
    clear hT
    have hT := hT1
    have hB : FrB (fun a => a ∈ B ++ [q]) w1 w1 := FrB.rf
    have tp : (fun a => a ∈ B ++ [q]) p := List.mem_append_left _ sp
    have tq : (fun a => a ∈ B ++ [q]) q := List.mem_append_right _ (List.mem_singleton.mpr rfl)
    have npq : p ≠ q := fun e => hqB (by rw [← e]; exact sp)
    have hcg : ∀ {α : Type} (F : Nat → α) (z : α) (a : Nat), a ∈ B → up1 F q z a = F a := fun F z a ha => up1_n (fun e => hqB (by rw [← e]; exact ha))
    have key : ∀ (L2 R2 : Nat → Option Nat) (lo2 hi2 : Nat → Int) (w2 : Wd), TW w2 (fun a => a ∈ B ++ [q]) (up1 h q hh) (up1 k q kk) (up1 v q vv) (up1 nx q (hd Y none)) (up1 P q none) L2 R2 (up1 pv q none) (up1 rd q 0) → FrB (fun a => a ∈ B ++ [q]) w1 w2 → Tr (fun a => a = q ∨ a ∈ B) root (fun a => (up1 h q hh a).toInt) (up1 (up1 P q none) q (some p)) L2 R2 lo2 hi2 → Z g x 16 263 [some (.ref y), some (.ref m), some (.ref T), some (.int hh), some (.ref kk), some (.ref vv), some .null, some (.int 0), some (.ref root), some .null, some (.int dir), l11, l12, some (.ref p), some (va_rf (hd Y none)), some (.ref q)] [] w2 0 0 := by
      intro L2 R2 lo2 hi2 w2 hT hB H2
      refine Z.aload ok dJ28_putTreeVal_263 rfl (by first | exact isRf.r _ | exact isRf.n | exact isRf.v _ | assumption) ?_
      refine Z.aload ok dJ28_putTreeVal_265 rfl (by first | exact isRf.r _ | exact isRf.n | exact isRf.v _ | assumption) ?_
      refine Z.put (ci := 9) (C := RJ28) (T := TJ28) (N := 11) (ty0 := tyJ28) ok (by exact hT _ (by assumption)) (by first | decide | assumption) rfl in_J28 tyJ28_ok nmJ28 5 (by decide) q1275 (Or.inr q1276) rfl (okV_o (by first | exact isRf.r _ | exact isRf.n | exact isRf.v _ | assumption)) (by rfl) dJ28_putTreeVal_267 ?_
      refine Z.tw_nx (some q) hT hB (by assumption) (fun w3 hT hB => ?_)
      refine Z.aload ok dJ28_putTreeVal_270 rfl (by first | exact isRf.r _ | exact isRf.n | exact isRf.v _ | assumption) ?_
      refine Z.aload ok dJ28_putTreeVal_272 rfl (by first | exact isRf.r _ | exact isRf.n | exact isRf.v _ | assumption) ?_
      refine Z.aload ok dJ28_putTreeVal_274 rfl (by first | exact isRf.r _ | exact isRf.n | exact isRf.v _ | assumption) ?_
      refine Z.dup_x1 ok dJ28_putTreeVal_276 (by first | rfl | exact cat_rf _) (by first | rfl | exact cat_rf _) ?_
      refine Z.put (ci := 9) (C := RJ28) (T := TJ28) (N := 11) (ty0 := tyJ28) ok (by exact hT _ (by assumption)) (by first | decide | assumption) rfl in_J28 tyJ28_ok nmJ28 9 (by decide) q1330 (Or.inl rfl) rfl (okV_o (by first | exact isRf.r _ | exact isRf.n | exact isRf.v _ | assumption)) (by rfl) dJ28_putTreeVal_277 ?_
      refine Z.tw_pv (some p) hT hB (by assumption) (fun w4 hT hB => ?_)
      refine Z.put (ci := 9) (C := RJ28) (T := TJ28) (N := 11) (ty0 := tyJ28) ok (by exact hT _ (by assumption)) (by first | decide | assumption) rfl in_J28 tyJ28_ok nmJ28 6 (by decide) q1327 (Or.inl rfl) rfl (okV_o (by first | exact isRf.r _ | exact isRf.n | exact isRf.v _ | assumption)) (by rfl) dJ28_putTreeVal_280 ?_
      refine Z.tw_P (some p) hT hB (by assumption) (fun w5 hT hB => ?_)
      have hk : ∀ (pv1 : Nat → Option Nat) (w6 : Wd), (∀ b, hd Y none ≠ some b → b ≠ q → pv1 b = pv b) → pv1 q = some p → (∀ y, hd Y none = some y → pv1 y = some q) → TW w6 (fun a => a ∈ B ++ [q]) (up1 h q hh) (up1 k q kk) (up1 v q vv) (up1 (up1 nx q (hd Y none)) p (some q)) (up1 (up1 P q none) q (some p)) L2 R2 pv1 (up1 rd q 0) → FrB (fun a => a ∈ B ++ [q]) w1 w6 → Z g x 16 298 [some (.ref y), some (.ref m), some (.ref T), some (.int hh), some (.ref kk), some (.ref vv), some .null, some (.int 0), some (.ref root), some .null, some (.int dir), l11, l12, some (.ref p), some (va_rf (hd Y none)), some (.ref q)] [] w6 0 0 := by
        intro pv1 w6 p1 p2 p3 hT hB
        refine Z.aload_n ok dJ28_putTreeVal_298 rfl (by first | exact isRf.r _ | exact isRf.n | exact isRf.v _ | assumption) ?_
        refine Z.aload ok dJ28_putTreeVal_299 rfl (by first | exact isRf.r _ | exact isRf.n | exact isRf.v _ | assumption) ?_
        refine Z.aload ok dJ28_putTreeVal_301 rfl (by first | exact isRf.r _ | exact isRf.n | exact isRf.v _ | assumption) ?_
        refine Z.callS ok (bal_ct hT (fun a ha => by rcases ha with e | e <;> simp [e]) H2 (Or.inl rfl)) q1293 q1294 q54 q1295 nk_J28_balanceInsertion rfl (by decide) (by first | exact Nat.le_of_ble_eq_true rfl | simp [Value.category, cat_rf]) (Nat.le_refl _) (Nat.le_refl _) dJ28_putTreeVal_303 rfl ZX.no (fun v w7 hr => ?_)
        obtain ⟨root', P', L', R', rd', lo', hi', rfl, hT2, H3, hB2⟩ := hr
        have hB7 := hB.tr hB2
        have hTm : T ∉ B ++ [q] := fun e => by
          rcases List.mem_append.mp e with e | e
          · exact hTB e
          · simp at e
            exact hqT e
        have hTab7 : w7 T = some (eN g n f, 5) := (hB7 T hTm).trans ((ho T hqT).trans hTab)
        have memB : ∀ a, a ∈ X ++ p :: q :: Y ↔ a = q ∨ a ∈ B := fun a => by rw [eB]; simp; grind
        have hdB : hd (X ++ p :: q :: Y) none = hd B none := by rw [eB]; cases X <;> rfl
        have hnd2 : (X ++ p :: q :: Y).Nodup := by
          have h1 : (X ++ p :: q :: Y).Perm (q :: B) := by
            rw [eB, show X ++ p :: q :: Y = (X ++ [p]) ++ q :: Y by simp, show X ++ p :: Y = (X ++ [p]) ++ Y by simp]
            exact List.perm_middle
          exact h1.nodup_iff.mpr (List.nodup_cons.mpr ⟨hqB, hnd⟩)
        have hperm2 : ((X ++ p :: q :: Y).map (dat (up1 h q hh) (up1 k q kk) (up1 v q vv))).Perm ((hh, kk, vv) :: ds) := by
          have h1 : (X ++ p :: q :: Y).Perm (q :: B) := by
            rw [eB, show X ++ p :: q :: Y = (X ++ [p]) ++ q :: Y by simp, show X ++ p :: Y = (X ++ [p]) ++ Y by simp]
            exact List.perm_middle
          refine (h1.map _).trans ?_
          rw [List.map_cons]
          have e1 : dat (up1 h q hh) (up1 k q kk) (up1 v q vv) q = (hh, kk, vv) := by simp only [dat, up1_s]
          rw [e1, map_up (h := h) (k := k) (v := v) (hcg h hh) (hcg k kk) (hcg v vv)]
          exact hperm.cons _
        have hr0 := H3.inS
        have hix2 : (nI n - 1) &&& (up1 h q hh) root' = nI i := by
          rcases hr0 with e | e
          · rw [e, up1_s]
            exact hix
          · rw [hcg h hh root' e]
            exact hixs' root' e
        refine Z.callS ok (mrtf_ct hT2 hTab7 hTm (fun a ha => by rcases (memB a).mp ha with e | e <;> simp [e]) hn hin hix2 (hf.trans hdB.symm) hseg' (hsep' pv1 p1 p2 p3) ((memB root').mpr hr0) hnd2) q1302 q1303 q54 q1304 nk_J28_moveRootToFront rfl (by decide) (by first | exact Nat.le_of_ble_eq_true rfl | simp [Value.category, cat_rf]) (Nat.le_refl _) (Nat.le_refl _) dJ28_putTreeVal_306 rfl ZX.no (fun v w8 hr => ?_)
        obtain ⟨rfl, B', nx', pv', f', r1, r2, r3, r4, r5, r6, r7, r8⟩ := hr
        refine Z.null ok dJ28_putTreeVal_309 ?_
        refine Z.aret ok hQ (by first | exact Or.inl ⟨_, rfl⟩ | exact Or.inr ⟨_, rfl⟩) (by first | exact isRf.r _ | exact isRf.n | exact isRf.v _ | assumption) dJ28_putTreeVal_310 ?_
        have mB' : ∀ a, a ∈ B' ↔ a = q ∨ a ∈ B := fun a => (r1.mem_iff).trans (memB a)
        refine ⟨rfl, B', f', ⟨up1 h q hh, up1 k q kk, up1 v q vv, nx', P', L', R', pv', rd', root', lo', hi', fun a ha => r2 a (by rcases (mB' a).mp ha with e | e <;> simp [e]), r6, r7, r1.nodup_iff.mpr hnd2, (r1.map _).trans hperm2, H3.setS (fun a => (mB' a).symm)⟩, fun e => ?_, r3, r4, r5, fun b hb hbT hwb => ?_⟩
        · have := (mB' q).mpr (Or.inl rfl)
          rw [e] at this
          cases this
        · have hbq : b ≠ q := fun e => hwb (by rw [e]; exact hq)
          have hbm : b ∉ B ++ [q] := by simp [hb, hbq]
          rw [r8 b (fun e => e.elim hbm hbT), hB7 b hbm, ho b hbq]
      refine Z.aload ok dJ28_putTreeVal_283 rfl (by first | exact isRf.r _ | exact isRf.n | exact isRf.v _ | assumption) ?_
      have b1 : ∀ b, b ≠ q → up1 (up1 pv q none) q (some p) b = pv b := fun b hb => by rw [up1_n hb, up1_n hb]
      refine Z.ifnull (tgt := 298) ok dJ28_putTreeVal_285 (by decide) (fun hY0 => ?_) (fun y0 hY0 => ?_)
      · exact hk _ w5 (fun b _ hb => b1 b hb) up1_s (fun y e => by rw [hY0] at e; cases e) hT hB
      · obtain ⟨y1, y2⟩ := hY y0 hY0
        have ty : (fun a => a ∈ B ++ [q]) y0 := List.mem_append_left _ y1
        have nyq : y0 ≠ q := fun e => hqB (by rw [← e]; exact y1)
        have hk := hk
        rw [hY0] at hk hT ⊢
        refine Z.aload ok dJ28_putTreeVal_288 rfl (by first | exact isRf.r _ | exact isRf.n | exact isRf.v _ | assumption) ?_
        refine Z.castS (ci := 9) (q := (RJ28, TJ28, 11)) ok (hT _ ty) rfl rfl q1250 dJ28_putTreeVal_290 ?_
        refine Z.aload ok dJ28_putTreeVal_293 rfl (by first | exact isRf.r _ | exact isRf.n | exact isRf.v _ | assumption) ?_
        refine Z.put (ci := 9) (C := RJ28) (T := TJ28) (N := 11) (ty0 := tyJ28) ok (by exact hT _ ty) (by first | decide | assumption) rfl in_J28 tyJ28_ok nmJ28 9 (by decide) q1330 (Or.inl rfl) rfl (okV_o (by first | exact isRf.r _ | exact isRf.n | exact isRf.v _ | assumption)) (by rfl) dJ28_putTreeVal_295 ?_
        refine Z.tw_pv (some q) hT hB ty (fun w6 hT hB => ?_)
        refine hk _ w6 (fun b hb hbq => ?_) ?_ (fun y e => by cases e; exact up1_s) hT hB
        · rw [up1_n (fun e => hb (by rw [e]))]
          exact b1 b hbq
        · rw [up1_n (Ne.symm nyq), up1_s]
    have Hc : Tr (fun a => a ∈ B) root (fun a => (up1 h q hh a).toInt) (up1 P q none) (up1 L q none) (up1 R q none) lo hi := H.congr (fun a ha => by rw [hcg h hh a ha]) (hcg P none) (hcg L none) (hcg R none)
    refine Z.astore ok dJ28_putTreeVal_239 (by decide) (by first | exact isRf.r _ | exact isRf.n | exact isRf.v _ | assumption) ?_
    refine Z.iload ok dJ28_putTreeVal_241 rfl ?_
    rcases hdir with ⟨rfl, d1, d2, d3⟩ | ⟨rfl, d1, d2, d3⟩
    · refine Z.if_gt (tgt := 256) ok dJ28_putTreeVal_243 (by decide) (fun hc => absurd hc (by decide)) (fun _ => ?_)
      refine Z.aload ok dJ28_putTreeVal_246 rfl (by first | exact isRf.r _ | exact isRf.n | exact isRf.v _ | assumption) ?_
      refine Z.aload ok dJ28_putTreeVal_248 rfl (by first | exact isRf.r _ | exact isRf.n | exact isRf.v _ | assumption) ?_
      refine Z.put (ci := 9) (C := RJ28) (T := TJ28) (N := 11) (ty0 := tyJ28) ok (by exact hT _ tp) (by first | decide | assumption) rfl in_J28 tyJ28_ok nmJ28 7 (by decide) q1328 (Or.inl rfl) rfl (okV_o (by first | exact isRf.r _ | exact isRf.n | exact isRf.v _ | assumption)) (by rfl) dJ28_putTreeVal_250 ?_
      refine Z.tw_L (some q) hT hB tp (fun w2 hT hB => ?_)
      refine Z.goto (tgt := 263) ok dJ28_putTreeVal_253 (by decide) ?_
      refine key _ _ _ _ w2 hT hB (Hc.insL sp hqB ((hcg L none p sp).trans d1) ?_ ?_ up1_s up1_s)
      · simp only [up1_s]
        exact d2
      · simp only [up1_s, up1_n npq]
        exact d3
    · refine Z.if_gt (tgt := 256) ok dJ28_putTreeVal_243 (by decide) (fun _ => ?_) (fun hc => absurd (by decide) hc)
      refine Z.aload ok dJ28_putTreeVal_256 rfl (by first | exact isRf.r _ | exact isRf.n | exact isRf.v _ | assumption) ?_
      refine Z.aload ok dJ28_putTreeVal_258 rfl (by first | exact isRf.r _ | exact isRf.n | exact isRf.v _ | assumption) ?_
      refine Z.put (ci := 9) (C := RJ28) (T := TJ28) (N := 11) (ty0 := tyJ28) ok (by exact hT _ tp) (by first | decide | assumption) rfl in_J28 tyJ28_ok nmJ28 8 (by decide) q1329 (Or.inl rfl) rfl (okV_o (by first | exact isRf.r _ | exact isRf.n | exact isRf.v _ | assumption)) (by rfl) dJ28_putTreeVal_260 ?_
      refine Z.tw_R (some q) hT hB tp (fun w2 hT hB => ?_)
      refine key _ _ _ _ w2 hT hB (Hc.insR sp hqB ((hcg R none p sp).trans d1) ?_ ?_ up1_s up1_s)
      · simp only [up1_s, up1_n npq]
        exact d2
      · simp only [up1_s]
        exact d3
  have down : ∀ (l9 l10 l11 l12 l13 l14 l15 : Option Value), Z g x 16 23 [some (.ref y), some (.ref m), some (.ref T), some (.int hh), some (.ref kk), some (.ref vv), some .null, some (.int 0), some (.ref root), l9, l10, l11, l12, l13, l14, l15] [] w 1 11 := by
    intro l9 l10 l11 l12 l13 l14 l15
    refine Z.aload ok dJ28_putTreeVal_23 rfl (by first | exact isRf.r _ | exact isRf.n | exact isRf.v _ | assumption) ?_
    refine Z.astore ok dJ28_putTreeVal_25 (by decide) (by first | exact isRf.r _ | exact isRf.n | exact isRf.v _ | assumption) ?_
    exact ptv_in ok hT H hne' (fun p l11 l12 l14 l15 sp a1 a2 a3 => fin p l11 l12 l14 l15 (-1) sp (Or.inl ⟨rfl, a1, a2, a3⟩)) (fun p l11 l12 l14 l15 sp a1 a2 a3 => fin p l11 l12 l14 l15 1 sp (Or.inr ⟨rfl, a1, a2, a3⟩)) (hi root - lo root).toNat root _ _ _ _ _ _ H.inS (by omega) (by omega) (by omega)
  have ty0 : (fun a => a ∈ B) y := hy
  refine Z.null ok dJ28_putTreeVal_0 ?_
  refine Z.astore ok dJ28_putTreeVal_1 (by decide) (by first | exact isRf.r _ | exact isRf.n | exact isRf.v _ | assumption) ?_
  refine Z.iconst_0 ok dJ28_putTreeVal_3 ?_
  refine Z.istore ok dJ28_putTreeVal_4 (by decide) ?_
  refine Z.aload_n ok dJ28_putTreeVal_6 rfl (by first | exact isRf.r _ | exact isRf.n | exact isRf.v _ | assumption) ?_
  refine Z.get (ci := 9) (C := RJ28) (T := TJ28) (N := 11) ok (hT _ ty0) rfl in_J28 6 (by decide) q1327 (Or.inl rfl) (by rfl) dJ28_putTreeVal_7 ?_
  refine Z.ifnull (tgt := 20) ok dJ28_putTreeVal_10 (by decide) (fun hpy => ?_) (fun b hpy => ?_)
  · refine Z.aload_n ok dJ28_putTreeVal_20 rfl (by first | exact isRf.r _ | exact isRf.n | exact isRf.v _ | assumption) ?_
    refine Z.astore ok dJ28_putTreeVal_21 (by decide) (by first | exact isRf.r _ | exact isRf.n | exact isRf.v _ | assumption) ?_
    have down := down
    rw [← (H.rt y hy).mp hpy] at down
    exact down _ _ _ _ _ _ _
  · refine Z.aload_n ok dJ28_putTreeVal_13 rfl (by first | exact isRf.r _ | exact isRf.n | exact isRf.v _ | assumption) ?_
    refine Z.callV (kc' := 1) (ks' := 11) (ci := 9) (q := (RJ28, TJ28, 11)) (C := RJ28) ok (root_ct hT (fun a ha => ha) H hy) (hT _ ty0) rfl rfl q715 q716 (Or.inl q717) q54 q718 nk_J28_root rfl (by decide) (by first | exact Nat.le_of_ble_eq_true rfl | simp [Value.category, cat_rf]) (by omega) (by omega) dJ28_putTreeVal_14 rfl ZX.no (fun v w1 hr => ?_)
    obtain ⟨rfl, rfl⟩ := hr
    refine Z.goto (tgt := 21) ok dJ28_putTreeVal_17 (by decide) ?_
    refine Z.astore ok dJ28_putTreeVal_21 (by decide) (by first | exact isRf.r _ | exact isRf.n | exact isRf.v _ | assumption) ?_
    exact down _ _ _ _ _ _ _
end PTV
