/-! ===== TREE NODES in the world; the rotations, walked ===== -/
abbrev eT (h : Nat → Int32) (k v : Nat → Nat) (nx P L R pv : Nat → Option Nat) (rd : Nat → Int32) (a : Nat) : va_E := ob 9 [.null, .null, .int (h a), .ref (k a), .ref (v a), va_rf (nx a), va_rf (P a), va_rf (L a), va_rf (R a), va_rf (pv a), .int (rd a)]
def TW (w : Wd) (S : Nat → Prop) (h : Nat → Int32) (k v : Nat → Nat) (nx P L R pv : Nat → Option Nat) (rd : Nat → Int32) : Prop := ∀ a, S a → w a = some (eT h k v nx P L R pv rd a, 5)
def FrB (S : Nat → Prop) (w w1 : Wd) : Prop := ∀ b, ¬ S b → w1 b = w b
theorem FrB.rf {S : Nat → Prop} {w : Wd} : FrB S w w := fun _ _ => rfl
theorem FrB.tr {S : Nat → Prop} {w w1 w2 : Wd} (h1 : FrB S w w1) (h2 : FrB S w1 w2) : FrB S w w2 := fun b hb => (h2 b hb).trans (h1 b hb)
theorem FrB.set {S : Nat → Prop} {w w1 : Wd} {a t : Nat} {e : va_E} (h1 : FrB S w w1) (ha : S a) : FrB S w (wset w1 a e t) := fun b hb => (ws_n (fun q => hb (by rw [q]; exact ha))).trans (h1 b hb)
theorem Z.tw_nx {g : Gx} {x : Cx} {nL pc : Nat} {Lc : List (Option Value)} {st : List Value} {w0 w : Wd} {kc ks a : Nat} {S : Nat → Prop} {h : Nat → Int32} {k v : Nat → Nat} {nx P L R pv : Nat → Option Nat} {rd : Nat → Int32} (y : Option Nat) (hT : TW w S h k v nx P L R pv rd) (hB : FrB S w0 w) (ha : S a) (kk : ∀ w1, TW w1 S h k v (up1 nx a y) P L R pv rd → FrB S w0 w1 → Z g x nL pc Lc st w1 kc ks) : Z g x nL pc Lc st (wset w a (ob 9 [.null, .null, .int (h a), .ref (k a), .ref (v a), va_rf y, va_rf (P a), va_rf (L a), va_rf (R a), va_rf (pv a), .int (rd a)]) 5) kc ks := by
  refine kk _ (fun b hb => ?_) (hB.set ha)
  by_cases e : b = a
  · subst e
    rw [ws_s]
    simp only [eT, up1_s]
  · rw [ws_n e, hT b hb]
    simp only [eT, up1_n e]
theorem Z.tw_P {g : Gx} {x : Cx} {nL pc : Nat} {Lc : List (Option Value)} {st : List Value} {w0 w : Wd} {kc ks a : Nat} {S : Nat → Prop} {h : Nat → Int32} {k v : Nat → Nat} {nx P L R pv : Nat → Option Nat} {rd : Nat → Int32} (y : Option Nat) (hT : TW w S h k v nx P L R pv rd) (hB : FrB S w0 w) (ha : S a) (kk : ∀ w1, TW w1 S h k v nx (up1 P a y) L R pv rd → FrB S w0 w1 → Z g x nL pc Lc st w1 kc ks) : Z g x nL pc Lc st (wset w a (ob 9 [.null, .null, .int (h a), .ref (k a), .ref (v a), va_rf (nx a), va_rf y, va_rf (L a), va_rf (R a), va_rf (pv a), .int (rd a)]) 5) kc ks := by
  refine kk _ (fun b hb => ?_) (hB.set ha)
  by_cases e : b = a
  · subst e
    rw [ws_s]
    simp only [eT, up1_s]
  · rw [ws_n e, hT b hb]
    simp only [eT, up1_n e]
theorem Z.tw_L {g : Gx} {x : Cx} {nL pc : Nat} {Lc : List (Option Value)} {st : List Value} {w0 w : Wd} {kc ks a : Nat} {S : Nat → Prop} {h : Nat → Int32} {k v : Nat → Nat} {nx P L R pv : Nat → Option Nat} {rd : Nat → Int32} (y : Option Nat) (hT : TW w S h k v nx P L R pv rd) (hB : FrB S w0 w) (ha : S a) (kk : ∀ w1, TW w1 S h k v nx P (up1 L a y) R pv rd → FrB S w0 w1 → Z g x nL pc Lc st w1 kc ks) : Z g x nL pc Lc st (wset w a (ob 9 [.null, .null, .int (h a), .ref (k a), .ref (v a), va_rf (nx a), va_rf (P a), va_rf y, va_rf (R a), va_rf (pv a), .int (rd a)]) 5) kc ks := by
  refine kk _ (fun b hb => ?_) (hB.set ha)
  by_cases e : b = a
  · subst e
    rw [ws_s]
    simp only [eT, up1_s]
  · rw [ws_n e, hT b hb]
    simp only [eT, up1_n e]
theorem Z.tw_R {g : Gx} {x : Cx} {nL pc : Nat} {Lc : List (Option Value)} {st : List Value} {w0 w : Wd} {kc ks a : Nat} {S : Nat → Prop} {h : Nat → Int32} {k v : Nat → Nat} {nx P L R pv : Nat → Option Nat} {rd : Nat → Int32} (y : Option Nat) (hT : TW w S h k v nx P L R pv rd) (hB : FrB S w0 w) (ha : S a) (kk : ∀ w1, TW w1 S h k v nx P L (up1 R a y) pv rd → FrB S w0 w1 → Z g x nL pc Lc st w1 kc ks) : Z g x nL pc Lc st (wset w a (ob 9 [.null, .null, .int (h a), .ref (k a), .ref (v a), va_rf (nx a), va_rf (P a), va_rf (L a), va_rf y, va_rf (pv a), .int (rd a)]) 5) kc ks := by
  refine kk _ (fun b hb => ?_) (hB.set ha)
  by_cases e : b = a
  · subst e
    rw [ws_s]
    simp only [eT, up1_s]
  · rw [ws_n e, hT b hb]
    simp only [eT, up1_n e]
theorem Z.tw_pv {g : Gx} {x : Cx} {nL pc : Nat} {Lc : List (Option Value)} {st : List Value} {w0 w : Wd} {kc ks a : Nat} {S : Nat → Prop} {h : Nat → Int32} {k v : Nat → Nat} {nx P L R pv : Nat → Option Nat} {rd : Nat → Int32} (y : Option Nat) (hT : TW w S h k v nx P L R pv rd) (hB : FrB S w0 w) (ha : S a) (kk : ∀ w1, TW w1 S h k v nx P L R (up1 pv a y) rd → FrB S w0 w1 → Z g x nL pc Lc st w1 kc ks) : Z g x nL pc Lc st (wset w a (ob 9 [.null, .null, .int (h a), .ref (k a), .ref (v a), va_rf (nx a), va_rf (P a), va_rf (L a), va_rf (R a), va_rf y, .int (rd a)]) 5) kc ks := by
  refine kk _ (fun b hb => ?_) (hB.set ha)
  by_cases e : b = a
  · subst e
    rw [ws_s]
    simp only [eT, up1_s]
  · rw [ws_n e, hT b hb]
    simp only [eT, up1_n e]
theorem Z.tw_rd {g : Gx} {x : Cx} {nL pc : Nat} {Lc : List (Option Value)} {st : List Value} {w0 w : Wd} {kc ks a : Nat} {S : Nat → Prop} {h : Nat → Int32} {k v : Nat → Nat} {nx P L R pv : Nat → Option Nat} {rd : Nat → Int32} (y : Int32) (hT : TW w S h k v nx P L R pv rd) (hB : FrB S w0 w) (ha : S a) (kk : ∀ w1, TW w1 S h k v nx P L R pv (up1 rd a y) → FrB S w0 w1 → Z g x nL pc Lc st w1 kc ks) : Z g x nL pc Lc st (wset w a (ob 9 [.null, .null, .int (h a), .ref (k a), .ref (v a), va_rf (nx a), va_rf (P a), va_rf (L a), va_rf (R a), va_rf (pv a), .int y]) 5) kc ks := by
  refine kk _ (fun b hb => ?_) (hB.set ha)
  by_cases e : b = a
  · subst e
    rw [ws_s]
    simp only [eT, up1_s]
  · rw [ws_n e, hT b hb]
    simp only [eT, up1_n e]
section ROT
variable {g : Gx} {w : Wd} {S S2 : Nat → Prop} {h : Nat → Int32} {k v : Nat → Nat} {nx P L R pv : Nat → Option Nat} {rd : Nat → Int32} {lo hi : Nat → Int} {root p r : Nat}
theorem rotL_ct (hT : TW w S h k v nx P L R pv rd) (hsub : ∀ a, S2 a → S a) (H : Tr S2 root (fun a => (h a).toInt) P L R lo hi) (hp : S2 p) (hr : R p = some r) : Ct g yJ28_rotateLeft cJ28_rotateLeft 5 (some (.object "java/util/HashMap$TreeNode")) 1 0 0 [.ref root, .ref p] w (fun o w' => ∃ rd', o = some (.ref (if P p = none then r else root)) ∧ TW w' S h k v nx (rotP P (L r) p r) (up1 (ppL L (P p) p r) r (some p)) (ppR L (up1 R p (L r)) (P p) p r) pv rd' ∧ (rd' = rd ∨ rd' = up1 rd r 0) ∧ FrB S w w') noX := by
  refine Ct.of RJ28 "rotateLeft" ⟨rfl, rfl⟩ (by decide +kernel) (by simp [Value.category]) (Nat.le_of_ble_eq_true rfl) (fun x ok hQ hN => ?_)
  show Z g x 5 0 [some (.ref root), some (.ref p), none, none, none] [] w 0 0
  have hB : FrB S w w := FrB.rf
  have sr2 := (H.rg p r hp hr).1
  have hnpr : p ≠ r := fun e => by
    have h1 := H.rg p r hp hr
    have h2 := H.ord p hp
    have h3 := H.ord r sr2
    rw [← e] at h1
    simp only [] at h1 h2
    omega
  have sp := hsub p hp
  have sr := hsub r sr2
  have key2 : ∀ (rt : Nat) (P1 L' R' : Nat → Option Nat) (rd' : Nat → Int32) (w2 : Wd), rt = (if P p = none then r else root) → TW w2 S h k v nx (up1 P1 r (P p)) L' R' pv rd' → FrB S w w2 → (up1 (up1 P1 r (P p)) p (some r) = rotP P (L r) p r) → L' = ppL L (P p) p r → R' = ppR L (up1 R p (L r)) (P p) p r → (rd' = rd ∨ rd' = up1 rd r 0) → Z g x 5 79 [some (.ref rt), some (.ref p), some (.ref r), some (va_rf (P p)), some (va_rf (L r))] [] w2 0 0 := by
    intro rt P1 L' R' rd' w2 e0 hT hB e1 e2 e3 e4
    refine Z.aload_n ok dJ28_rotateLeft_79 rfl (by first | exact isRf.r _ | exact isRf.n | exact isRf.v _ | assumption) ?_
    refine Z.aload_n ok dJ28_rotateLeft_80 rfl (by first | exact isRf.r _ | exact isRf.n | exact isRf.v _ | assumption) ?_
    refine Z.put (ci := 9) (C := RJ28) (T := TJ28) (N := 11) (ty0 := tyJ28) ok (by first | assumption | exact ws_s | exact hT _ (by assumption) | (rw [ws_n (by assumption)]; assumption)) (by first | decide | assumption) rfl in_J28 tyJ28_ok nmJ28 7 (by decide) q1328 (Or.inl rfl) rfl (okV_o (by first | exact isRf.r _ | exact isRf.n | exact isRf.v _ | assumption)) (by rfl) dJ28_rotateLeft_81 ?_
    refine Z.tw_L (some p) hT hB (by assumption) (fun w3 hT hB => ?_)
    refine Z.aload_n ok dJ28_rotateLeft_84 rfl (by first | exact isRf.r _ | exact isRf.n | exact isRf.v _ | assumption) ?_
    refine Z.aload_n ok dJ28_rotateLeft_85 rfl (by first | exact isRf.r _ | exact isRf.n | exact isRf.v _ | assumption) ?_
    refine Z.put (ci := 9) (C := RJ28) (T := TJ28) (N := 11) (ty0 := tyJ28) ok (by first | assumption | exact ws_s | exact hT _ (by assumption) | (rw [ws_n (by assumption)]; assumption)) (by first | decide | assumption) rfl in_J28 tyJ28_ok nmJ28 6 (by decide) q1327 (Or.inl rfl) rfl (okV_o (by first | exact isRf.r _ | exact isRf.n | exact isRf.v _ | assumption)) (by rfl) dJ28_rotateLeft_86 ?_
    refine Z.tw_P (some r) hT hB (by assumption) (fun w4 hT hB => ?_)
    refine Z.aload_n ok dJ28_rotateLeft_89 rfl (by first | exact isRf.r _ | exact isRf.n | exact isRf.v _ | assumption) ?_
    refine Z.aret ok hQ (by first | exact Or.inl ⟨_, rfl⟩ | exact Or.inr ⟨_, rfl⟩) (by first | exact isRf.r _ | exact isRf.n | exact isRf.v _ | assumption) dJ28_rotateLeft_90 ?_
    refine ⟨rd', by rw [e0], ?_, e4, hB⟩
    rw [← e1, ← e2, ← e3]
    exact hT
  have key : ∀ (P1 : Nat → Option Nat) (w1 : Wd), P1 p = P p → (up1 (up1 P1 r (P p)) p (some r) = rotP P (L r) p r) → TW w1 S h k v nx P1 L (up1 R p (L r)) pv rd → FrB S w w1 → Z g x 5 34 [some (.ref root), some (.ref p), some (.ref r), none, some (va_rf (L r))] [] w1 0 0 := by
    intro P1 w1 e0 e1 hT hB
    refine Z.aload_n ok dJ28_rotateLeft_34 rfl (by first | exact isRf.r _ | exact isRf.n | exact isRf.v _ | assumption) ?_
    refine Z.aload_n ok dJ28_rotateLeft_35 rfl (by first | exact isRf.r _ | exact isRf.n | exact isRf.v _ | assumption) ?_
    refine Z.get (ci := 9) (C := RJ28) (T := TJ28) (N := 11) ok (by first | assumption | exact ws_s | exact hT _ (by assumption) | (rw [ws_n (by assumption)]; assumption)) rfl in_J28 6 (by decide) q1327 (Or.inl rfl) (by rfl) dJ28_rotateLeft_36 ?_
    rw [e0]
    refine Z.dup_x1 ok dJ28_rotateLeft_39 (by first | rfl | exact cat_rf _) (by first | rfl | exact cat_rf _) ?_
    refine Z.put (ci := 9) (C := RJ28) (T := TJ28) (N := 11) (ty0 := tyJ28) ok (by first | assumption | exact ws_s | exact hT _ (by assumption) | (rw [ws_n (by assumption)]; assumption)) (by first | decide | assumption) rfl in_J28 tyJ28_ok nmJ28 6 (by decide) q1327 (Or.inl rfl) rfl (okV_o (by first | exact isRf.r _ | exact isRf.n | exact isRf.v _ | assumption)) (by rfl) dJ28_rotateLeft_40 ?_
    refine Z.tw_P (P p) hT hB (by assumption) (fun w2 hT hB => ?_)
    refine Z.dup ok dJ28_rotateLeft_43 (by first | rfl | exact cat_rf _) ?_
    refine Z.astore_n (i := 3) ok dJ28_rotateLeft_44 rfl (by decide) (by first | exact isRf.r _ | exact isRf.n | exact isRf.v _ | assumption) ?_
    refine Z.ifnonnull (tgt := 58) ok dJ28_rotateLeft_45 (by decide) (fun pp hpp => ?_) (fun hpp => ?_)
    · have s2 := (H.pa p pp hp hpp).1
      have spp := hsub pp s2
      rw [hpp] at hT ⊢
      refine Z.aload_n ok dJ28_rotateLeft_58 rfl (by first | exact isRf.r _ | exact isRf.n | exact isRf.v _ | assumption) ?_
      refine Z.get (ci := 9) (C := RJ28) (T := TJ28) (N := 11) ok (by first | assumption | exact ws_s | exact hT _ (by assumption) | (rw [ws_n (by assumption)]; assumption)) rfl in_J28 7 (by decide) q1328 (Or.inl rfl) (by rfl) dJ28_rotateLeft_59 ?_
      refine Z.aload_n ok dJ28_rotateLeft_62 rfl (by first | exact isRf.r _ | exact isRf.n | exact isRf.v _ | assumption) ?_
      show Z g x 5 63 _ [va_rf (some p), va_rf (L pp)] w2 _ _
      refine Z.acmp_ne (tgt := 74) ok dJ28_rotateLeft_63 (by decide) (fun hc => ?_) (fun hc => ?_)
      · refine Z.aload_n ok dJ28_rotateLeft_74 rfl (by first | exact isRf.r _ | exact isRf.n | exact isRf.v _ | assumption) ?_
        refine Z.aload_n ok dJ28_rotateLeft_75 rfl (by first | exact isRf.r _ | exact isRf.n | exact isRf.v _ | assumption) ?_
        refine Z.put (ci := 9) (C := RJ28) (T := TJ28) (N := 11) (ty0 := tyJ28) ok (by first | assumption | exact ws_s | exact hT _ (by assumption) | (rw [ws_n (by assumption)]; assumption)) (by first | decide | assumption) rfl in_J28 tyJ28_ok nmJ28 8 (by decide) q1329 (Or.inl rfl) rfl (okV_o (by first | exact isRf.r _ | exact isRf.n | exact isRf.v _ | assumption)) (by rfl) dJ28_rotateLeft_76 ?_
        refine Z.tw_R (some r) hT hB (by assumption) (fun w3 hT hB => ?_)
        rw [← hpp]
        refine key2 root P1 _ _ rd w3 (by rw [hpp]; rfl) (by rw [hpp]; exact hT) hB e1 ?_ ?_ (Or.inl rfl)
        · simp only [ppL, hpp, if_neg hc]
        · simp only [ppR, hpp, if_neg hc]
      · refine Z.aload_n ok dJ28_rotateLeft_66 rfl (by first | exact isRf.r _ | exact isRf.n | exact isRf.v _ | assumption) ?_
        refine Z.aload_n ok dJ28_rotateLeft_67 rfl (by first | exact isRf.r _ | exact isRf.n | exact isRf.v _ | assumption) ?_
        refine Z.put (ci := 9) (C := RJ28) (T := TJ28) (N := 11) (ty0 := tyJ28) ok (by first | assumption | exact ws_s | exact hT _ (by assumption) | (rw [ws_n (by assumption)]; assumption)) (by first | decide | assumption) rfl in_J28 tyJ28_ok nmJ28 7 (by decide) q1328 (Or.inl rfl) rfl (okV_o (by first | exact isRf.r _ | exact isRf.n | exact isRf.v _ | assumption)) (by rfl) dJ28_rotateLeft_68 ?_
        refine Z.tw_L (some r) hT hB (by assumption) (fun w3 hT hB => ?_)
        refine Z.goto (tgt := 79) ok dJ28_rotateLeft_71 (by decide) ?_
        rw [← hpp]
        refine key2 root P1 _ _ rd w3 (by rw [hpp]; rfl) (by rw [hpp]; exact hT) hB e1 ?_ ?_ (Or.inl rfl)
        · simp only [ppL, hpp, if_pos hc]
        · simp only [ppR, hpp, if_pos hc]
    · refine Z.aload_n ok dJ28_rotateLeft_48 rfl (by first | exact isRf.r _ | exact isRf.n | exact isRf.v _ | assumption) ?_
      refine Z.dup ok dJ28_rotateLeft_49 (by first | rfl | exact cat_rf _) ?_
      refine Z.astore_n (i := 0) ok dJ28_rotateLeft_50 rfl (by decide) (by first | exact isRf.r _ | exact isRf.n | exact isRf.v _ | assumption) ?_
      refine Z.iconst_0 ok dJ28_rotateLeft_51 ?_
      refine Z.put (ci := 9) (C := RJ28) (T := TJ28) (N := 11) (ty0 := tyJ28) ok (by first | assumption | exact ws_s | exact hT _ (by assumption) | (rw [ws_n (by assumption)]; assumption)) (by first | decide | assumption) rfl in_J28 tyJ28_ok nmJ28 10 (by decide) q1332 (Or.inl rfl) rfl (by first | exact okV_z0 | exact okV_z1) (by rfl) dJ28_rotateLeft_52 ?_
      refine Z.tw_rd (0) hT hB (by assumption) (fun w3 hT hB => ?_)
      refine Z.goto (tgt := 79) ok dJ28_rotateLeft_55 (by decide) ?_
      refine key2 r P1 _ _ _ w3 (by rw [if_pos hpp]) hT hB e1 ?_ ?_ (Or.inr rfl)
      · simp only [ppL, hpp]
      · simp only [ppR, hpp]
  refine Z.aload_n ok dJ28_rotateLeft_0 rfl (by first | exact isRf.r _ | exact isRf.n | exact isRf.v _ | assumption) ?_
  refine Z.ifnullR ok dJ28_rotateLeft_1 ?_
  refine Z.aload_n ok dJ28_rotateLeft_4 rfl (by first | exact isRf.r _ | exact isRf.n | exact isRf.v _ | assumption) ?_
  refine Z.get (ci := 9) (C := RJ28) (T := TJ28) (N := 11) ok (by first | assumption | exact ws_s | exact hT _ (by assumption) | (rw [ws_n (by assumption)]; assumption)) rfl in_J28 8 (by decide) q1329 (Or.inl rfl) (by rfl) dJ28_rotateLeft_5 ?_
  rw [hr]
  refine Z.dup ok dJ28_rotateLeft_8 (by first | rfl | exact cat_rf _) ?_
  refine Z.astore_n (i := 2) ok dJ28_rotateLeft_9 rfl (by decide) (by first | exact isRf.r _ | exact isRf.n | exact isRf.v _ | assumption) ?_
  refine Z.ifnullR ok dJ28_rotateLeft_10 ?_
  refine Z.aload_n ok dJ28_rotateLeft_13 rfl (by first | exact isRf.r _ | exact isRf.n | exact isRf.v _ | assumption) ?_
  refine Z.aload_n ok dJ28_rotateLeft_14 rfl (by first | exact isRf.r _ | exact isRf.n | exact isRf.v _ | assumption) ?_
  refine Z.get (ci := 9) (C := RJ28) (T := TJ28) (N := 11) ok (by first | assumption | exact ws_s | exact hT _ (by assumption) | (rw [ws_n (by assumption)]; assumption)) rfl in_J28 7 (by decide) q1328 (Or.inl rfl) (by rfl) dJ28_rotateLeft_15 ?_
  refine Z.dup_x1 ok dJ28_rotateLeft_18 (by first | rfl | exact cat_rf _) (by first | rfl | exact cat_rf _) ?_
  refine Z.put (ci := 9) (C := RJ28) (T := TJ28) (N := 11) (ty0 := tyJ28) ok (by first | assumption | exact ws_s | exact hT _ (by assumption) | (rw [ws_n (by assumption)]; assumption)) (by first | decide | assumption) rfl in_J28 tyJ28_ok nmJ28 8 (by decide) q1329 (Or.inl rfl) rfl (okV_o (by first | exact isRf.r _ | exact isRf.n | exact isRf.v _ | assumption)) (by rfl) dJ28_rotateLeft_19 ?_
  refine Z.tw_R (L r) hT hB (by assumption) (fun w1 hT hB => ?_)
  refine Z.dup ok dJ28_rotateLeft_22 (by first | rfl | exact cat_rf _) ?_
  refine Z.astore ok dJ28_rotateLeft_23 (by decide) (by first | exact isRf.r _ | exact isRf.n | exact isRf.v _ | assumption) ?_
  refine Z.ifnull (tgt := 34) ok dJ28_rotateLeft_25 (by decide) (fun hl => ?_) (fun rl hl => ?_)
  · refine key P w1 rfl ?_ hT hB
    simp only [rotP, hl]
  · have s3 := hsub rl (H.lf r rl sr2 hl).1
    have npl : p ≠ rl := fun e => by
      have h1 := H.lf r rl sr2 hl
      have h2 := H.rg p r hp hr
      have h3 := H.ord p hp
      rw [← e] at h1
      omega
    have key := key
    rw [hl] at hT key ⊢
    refine Z.aload ok dJ28_rotateLeft_28 rfl (by first | exact isRf.r _ | exact isRf.n | exact isRf.v _ | assumption) ?_
    refine Z.aload_n ok dJ28_rotateLeft_30 rfl (by first | exact isRf.r _ | exact isRf.n | exact isRf.v _ | assumption) ?_
    refine Z.put (ci := 9) (C := RJ28) (T := TJ28) (N := 11) (ty0 := tyJ28) ok (by first | assumption | exact ws_s | exact hT _ (by assumption) | (rw [ws_n (by assumption)]; assumption)) (by first | decide | assumption) rfl in_J28 tyJ28_ok nmJ28 6 (by decide) q1327 (Or.inl rfl) rfl (okV_o (by first | exact isRf.r _ | exact isRf.n | exact isRf.v _ | assumption)) (by rfl) dJ28_rotateLeft_31 ?_
    refine Z.tw_P (some p) hT hB (by assumption) (fun w2 hT hB => ?_)
    refine key (up1 P rl (some p)) w2 (up1_n npl) ?_ hT hB
    simp only [rotP]
theorem rotR_ct (hT : TW w S h k v nx P L R pv rd) (hsub : ∀ a, S2 a → S a) (H : Tr S2 root (fun a => (h a).toInt) P L R lo hi) (hp : S2 p) (hr : L p = some r) : Ct g yJ28_rotateRight cJ28_rotateRight 5 (some (.object "java/util/HashMap$TreeNode")) 1 0 0 [.ref root, .ref p] w (fun o w' => ∃ rd', o = some (.ref (if P p = none then r else root)) ∧ TW w' S h k v nx (rotP P (R r) p r) (ppR R (up1 L p (R r)) (P p) p r) (up1 (ppL R (P p) p r) r (some p)) pv rd' ∧ (rd' = rd ∨ rd' = up1 rd r 0) ∧ FrB S w w') noX := by
  refine Ct.of RJ28 "rotateRight" ⟨rfl, rfl⟩ (by decide +kernel) (by simp [Value.category]) (Nat.le_of_ble_eq_true rfl) (fun x ok hQ hN => ?_)
  show Z g x 5 0 [some (.ref root), some (.ref p), none, none, none] [] w 0 0
  have hB : FrB S w w := FrB.rf
  have sr2 := (H.lf p r hp hr).1
  have hnpr : p ≠ r := fun e => by
    have h1 := H.lf p r hp hr
    have h2 := H.ord p hp
    have h3 := H.ord r sr2
    rw [← e] at h1
    simp only [] at h1 h2
    omega
  have sp := hsub p hp
  have sr := hsub r sr2
  have key2 : ∀ (rt : Nat) (P1 L' R' : Nat → Option Nat) (rd' : Nat → Int32) (w2 : Wd), rt = (if P p = none then r else root) → TW w2 S h k v nx (up1 P1 r (P p)) L' R' pv rd' → FrB S w w2 → (up1 (up1 P1 r (P p)) p (some r) = rotP P (R r) p r) → R' = ppL R (P p) p r → L' = ppR R (up1 L p (R r)) (P p) p r → (rd' = rd ∨ rd' = up1 rd r 0) → Z g x 5 79 [some (.ref rt), some (.ref p), some (.ref r), some (va_rf (P p)), some (va_rf (R r))] [] w2 0 0 := by
    intro rt P1 L' R' rd' w2 e0 hT hB e1 e2 e3 e4
    refine Z.aload_n ok dJ28_rotateRight_79 rfl (by first | exact isRf.r _ | exact isRf.n | exact isRf.v _ | assumption) ?_
    refine Z.aload_n ok dJ28_rotateRight_80 rfl (by first | exact isRf.r _ | exact isRf.n | exact isRf.v _ | assumption) ?_
    refine Z.put (ci := 9) (C := RJ28) (T := TJ28) (N := 11) (ty0 := tyJ28) ok (by first | assumption | exact ws_s | exact hT _ (by assumption) | (rw [ws_n (by assumption)]; assumption)) (by first | decide | assumption) rfl in_J28 tyJ28_ok nmJ28 8 (by decide) q1329 (Or.inl rfl) rfl (okV_o (by first | exact isRf.r _ | exact isRf.n | exact isRf.v _ | assumption)) (by rfl) dJ28_rotateRight_81 ?_
    refine Z.tw_R (some p) hT hB (by assumption) (fun w3 hT hB => ?_)
    refine Z.aload_n ok dJ28_rotateRight_84 rfl (by first | exact isRf.r _ | exact isRf.n | exact isRf.v _ | assumption) ?_
    refine Z.aload_n ok dJ28_rotateRight_85 rfl (by first | exact isRf.r _ | exact isRf.n | exact isRf.v _ | assumption) ?_
    refine Z.put (ci := 9) (C := RJ28) (T := TJ28) (N := 11) (ty0 := tyJ28) ok (by first | assumption | exact ws_s | exact hT _ (by assumption) | (rw [ws_n (by assumption)]; assumption)) (by first | decide | assumption) rfl in_J28 tyJ28_ok nmJ28 6 (by decide) q1327 (Or.inl rfl) rfl (okV_o (by first | exact isRf.r _ | exact isRf.n | exact isRf.v _ | assumption)) (by rfl) dJ28_rotateRight_86 ?_
    refine Z.tw_P (some r) hT hB (by assumption) (fun w4 hT hB => ?_)
    refine Z.aload_n ok dJ28_rotateRight_89 rfl (by first | exact isRf.r _ | exact isRf.n | exact isRf.v _ | assumption) ?_
    refine Z.aret ok hQ (by first | exact Or.inl ⟨_, rfl⟩ | exact Or.inr ⟨_, rfl⟩) (by first | exact isRf.r _ | exact isRf.n | exact isRf.v _ | assumption) dJ28_rotateRight_90 ?_
    refine ⟨rd', by rw [e0], ?_, e4, hB⟩
    rw [← e1, ← e2, ← e3]
    exact hT
  have key : ∀ (P1 : Nat → Option Nat) (w1 : Wd), P1 p = P p → (up1 (up1 P1 r (P p)) p (some r) = rotP P (R r) p r) → TW w1 S h k v nx P1 (up1 L p (R r)) R pv rd → FrB S w w1 → Z g x 5 34 [some (.ref root), some (.ref p), some (.ref r), none, some (va_rf (R r))] [] w1 0 0 := by
    intro P1 w1 e0 e1 hT hB
    refine Z.aload_n ok dJ28_rotateRight_34 rfl (by first | exact isRf.r _ | exact isRf.n | exact isRf.v _ | assumption) ?_
    refine Z.aload_n ok dJ28_rotateRight_35 rfl (by first | exact isRf.r _ | exact isRf.n | exact isRf.v _ | assumption) ?_
    refine Z.get (ci := 9) (C := RJ28) (T := TJ28) (N := 11) ok (by first | assumption | exact ws_s | exact hT _ (by assumption) | (rw [ws_n (by assumption)]; assumption)) rfl in_J28 6 (by decide) q1327 (Or.inl rfl) (by rfl) dJ28_rotateRight_36 ?_
    rw [e0]
    refine Z.dup_x1 ok dJ28_rotateRight_39 (by first | rfl | exact cat_rf _) (by first | rfl | exact cat_rf _) ?_
    refine Z.put (ci := 9) (C := RJ28) (T := TJ28) (N := 11) (ty0 := tyJ28) ok (by first | assumption | exact ws_s | exact hT _ (by assumption) | (rw [ws_n (by assumption)]; assumption)) (by first | decide | assumption) rfl in_J28 tyJ28_ok nmJ28 6 (by decide) q1327 (Or.inl rfl) rfl (okV_o (by first | exact isRf.r _ | exact isRf.n | exact isRf.v _ | assumption)) (by rfl) dJ28_rotateRight_40 ?_
    refine Z.tw_P (P p) hT hB (by assumption) (fun w2 hT hB => ?_)
    refine Z.dup ok dJ28_rotateRight_43 (by first | rfl | exact cat_rf _) ?_
    refine Z.astore_n (i := 3) ok dJ28_rotateRight_44 rfl (by decide) (by first | exact isRf.r _ | exact isRf.n | exact isRf.v _ | assumption) ?_
    refine Z.ifnonnull (tgt := 58) ok dJ28_rotateRight_45 (by decide) (fun pp hpp => ?_) (fun hpp => ?_)
    · have s2 := (H.pa p pp hp hpp).1
      have spp := hsub pp s2
      rw [hpp] at hT ⊢
      refine Z.aload_n ok dJ28_rotateRight_58 rfl (by first | exact isRf.r _ | exact isRf.n | exact isRf.v _ | assumption) ?_
      refine Z.get (ci := 9) (C := RJ28) (T := TJ28) (N := 11) ok (by first | assumption | exact ws_s | exact hT _ (by assumption) | (rw [ws_n (by assumption)]; assumption)) rfl in_J28 8 (by decide) q1329 (Or.inl rfl) (by rfl) dJ28_rotateRight_59 ?_
      refine Z.aload_n ok dJ28_rotateRight_62 rfl (by first | exact isRf.r _ | exact isRf.n | exact isRf.v _ | assumption) ?_
      show Z g x 5 63 _ [va_rf (some p), va_rf (R pp)] w2 _ _
      refine Z.acmp_ne (tgt := 74) ok dJ28_rotateRight_63 (by decide) (fun hc => ?_) (fun hc => ?_)
      · refine Z.aload_n ok dJ28_rotateRight_74 rfl (by first | exact isRf.r _ | exact isRf.n | exact isRf.v _ | assumption) ?_
        refine Z.aload_n ok dJ28_rotateRight_75 rfl (by first | exact isRf.r _ | exact isRf.n | exact isRf.v _ | assumption) ?_
        refine Z.put (ci := 9) (C := RJ28) (T := TJ28) (N := 11) (ty0 := tyJ28) ok (by first | assumption | exact ws_s | exact hT _ (by assumption) | (rw [ws_n (by assumption)]; assumption)) (by first | decide | assumption) rfl in_J28 tyJ28_ok nmJ28 7 (by decide) q1328 (Or.inl rfl) rfl (okV_o (by first | exact isRf.r _ | exact isRf.n | exact isRf.v _ | assumption)) (by rfl) dJ28_rotateRight_76 ?_
        refine Z.tw_L (some r) hT hB (by assumption) (fun w3 hT hB => ?_)
        rw [← hpp]
        refine key2 root P1 _ _ rd w3 (by rw [hpp]; rfl) (by rw [hpp]; exact hT) hB e1 ?_ ?_ (Or.inl rfl)
        · simp only [ppL, hpp, if_neg hc]
        · simp only [ppR, hpp, if_neg hc]
      · refine Z.aload_n ok dJ28_rotateRight_66 rfl (by first | exact isRf.r _ | exact isRf.n | exact isRf.v _ | assumption) ?_
        refine Z.aload_n ok dJ28_rotateRight_67 rfl (by first | exact isRf.r _ | exact isRf.n | exact isRf.v _ | assumption) ?_
        refine Z.put (ci := 9) (C := RJ28) (T := TJ28) (N := 11) (ty0 := tyJ28) ok (by first | assumption | exact ws_s | exact hT _ (by assumption) | (rw [ws_n (by assumption)]; assumption)) (by first | decide | assumption) rfl in_J28 tyJ28_ok nmJ28 8 (by decide) q1329 (Or.inl rfl) rfl (okV_o (by first | exact isRf.r _ | exact isRf.n | exact isRf.v _ | assumption)) (by rfl) dJ28_rotateRight_68 ?_
        refine Z.tw_R (some r) hT hB (by assumption) (fun w3 hT hB => ?_)
        refine Z.goto (tgt := 79) ok dJ28_rotateRight_71 (by decide) ?_
        rw [← hpp]
        refine key2 root P1 _ _ rd w3 (by rw [hpp]; rfl) (by rw [hpp]; exact hT) hB e1 ?_ ?_ (Or.inl rfl)
        · simp only [ppL, hpp, if_pos hc]
        · simp only [ppR, hpp, if_pos hc]
    · refine Z.aload_n ok dJ28_rotateRight_48 rfl (by first | exact isRf.r _ | exact isRf.n | exact isRf.v _ | assumption) ?_
      refine Z.dup ok dJ28_rotateRight_49 (by first | rfl | exact cat_rf _) ?_
      refine Z.astore_n (i := 0) ok dJ28_rotateRight_50 rfl (by decide) (by first | exact isRf.r _ | exact isRf.n | exact isRf.v _ | assumption) ?_
      refine Z.iconst_0 ok dJ28_rotateRight_51 ?_
      refine Z.put (ci := 9) (C := RJ28) (T := TJ28) (N := 11) (ty0 := tyJ28) ok (by first | assumption | exact ws_s | exact hT _ (by assumption) | (rw [ws_n (by assumption)]; assumption)) (by first | decide | assumption) rfl in_J28 tyJ28_ok nmJ28 10 (by decide) q1332 (Or.inl rfl) rfl (by first | exact okV_z0 | exact okV_z1) (by rfl) dJ28_rotateRight_52 ?_
      refine Z.tw_rd (0) hT hB (by assumption) (fun w3 hT hB => ?_)
      refine Z.goto (tgt := 79) ok dJ28_rotateRight_55 (by decide) ?_
      refine key2 r P1 _ _ _ w3 (by rw [if_pos hpp]) hT hB e1 ?_ ?_ (Or.inr rfl)
      · simp only [ppL, hpp]
      · simp only [ppR, hpp]
  refine Z.aload_n ok dJ28_rotateRight_0 rfl (by first | exact isRf.r _ | exact isRf.n | exact isRf.v _ | assumption) ?_
  refine Z.ifnullR ok dJ28_rotateRight_1 ?_
  refine Z.aload_n ok dJ28_rotateRight_4 rfl (by first | exact isRf.r _ | exact isRf.n | exact isRf.v _ | assumption) ?_
  refine Z.get (ci := 9) (C := RJ28) (T := TJ28) (N := 11) ok (by first | assumption | exact ws_s | exact hT _ (by assumption) | (rw [ws_n (by assumption)]; assumption)) rfl in_J28 7 (by decide) q1328 (Or.inl rfl) (by rfl) dJ28_rotateRight_5 ?_
  rw [hr]
  refine Z.dup ok dJ28_rotateRight_8 (by first | rfl | exact cat_rf _) ?_
  refine Z.astore_n (i := 2) ok dJ28_rotateRight_9 rfl (by decide) (by first | exact isRf.r _ | exact isRf.n | exact isRf.v _ | assumption) ?_
  refine Z.ifnullR ok dJ28_rotateRight_10 ?_
  refine Z.aload_n ok dJ28_rotateRight_13 rfl (by first | exact isRf.r _ | exact isRf.n | exact isRf.v _ | assumption) ?_
  refine Z.aload_n ok dJ28_rotateRight_14 rfl (by first | exact isRf.r _ | exact isRf.n | exact isRf.v _ | assumption) ?_
  refine Z.get (ci := 9) (C := RJ28) (T := TJ28) (N := 11) ok (by first | assumption | exact ws_s | exact hT _ (by assumption) | (rw [ws_n (by assumption)]; assumption)) rfl in_J28 8 (by decide) q1329 (Or.inl rfl) (by rfl) dJ28_rotateRight_15 ?_
  refine Z.dup_x1 ok dJ28_rotateRight_18 (by first | rfl | exact cat_rf _) (by first | rfl | exact cat_rf _) ?_
  refine Z.put (ci := 9) (C := RJ28) (T := TJ28) (N := 11) (ty0 := tyJ28) ok (by first | assumption | exact ws_s | exact hT _ (by assumption) | (rw [ws_n (by assumption)]; assumption)) (by first | decide | assumption) rfl in_J28 tyJ28_ok nmJ28 7 (by decide) q1328 (Or.inl rfl) rfl (okV_o (by first | exact isRf.r _ | exact isRf.n | exact isRf.v _ | assumption)) (by rfl) dJ28_rotateRight_19 ?_
  refine Z.tw_L (R r) hT hB (by assumption) (fun w1 hT hB => ?_)
  refine Z.dup ok dJ28_rotateRight_22 (by first | rfl | exact cat_rf _) ?_
  refine Z.astore ok dJ28_rotateRight_23 (by decide) (by first | exact isRf.r _ | exact isRf.n | exact isRf.v _ | assumption) ?_
  refine Z.ifnull (tgt := 34) ok dJ28_rotateRight_25 (by decide) (fun hl => ?_) (fun rl hl => ?_)
  · refine key P w1 rfl ?_ hT hB
    simp only [rotP, hl]
  · have s3 := hsub rl (H.rg r rl sr2 hl).1
    have npl : p ≠ rl := fun e => by
      have h1 := H.rg r rl sr2 hl
      have h2 := H.lf p r hp hr
      have h3 := H.ord p hp
      rw [← e] at h1
      omega
    have key := key
    rw [hl] at hT key ⊢
    refine Z.aload ok dJ28_rotateRight_28 rfl (by first | exact isRf.r _ | exact isRf.n | exact isRf.v _ | assumption) ?_
    refine Z.aload_n ok dJ28_rotateRight_30 rfl (by first | exact isRf.r _ | exact isRf.n | exact isRf.v _ | assumption) ?_
    refine Z.put (ci := 9) (C := RJ28) (T := TJ28) (N := 11) (ty0 := tyJ28) ok (by first | assumption | exact ws_s | exact hT _ (by assumption) | (rw [ws_n (by assumption)]; assumption)) (by first | decide | assumption) rfl in_J28 tyJ28_ok nmJ28 6 (by decide) q1327 (Or.inl rfl) rfl (okV_o (by first | exact isRf.r _ | exact isRf.n | exact isRf.v _ | assumption)) (by rfl) dJ28_rotateRight_31 ?_
    refine Z.tw_P (some p) hT hB (by assumption) (fun w2 hT hB => ?_)
    refine key (up1 P rl (some p)) w2 (up1_n npl) ?_ hT hB
    simp only [rotP]
end ROT
