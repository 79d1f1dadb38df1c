/-! ===== CHAINS (next, prev); moveRootToFront ===== -/
def hd : List Nat → Option Nat → Option Nat
  | [], e => e
  | b :: _, _ => some b
def lst : List Nat → Option Nat → Option Nat
  | [], e => e
  | b :: r, _ => lst r (some b)
def seg (nx : Nat → Option Nat) : List Nat → Option Nat → Prop
  | [], _ => True
  | a :: r, e => nx a = hd r e ∧ seg nx r e
def sep (pv : Nat → Option Nat) : List Nat → Option Nat → Prop
  | [], _ => True
  | a :: r, e => pv a = e ∧ sep pv r (some a)
theorem hd_app (X Y : List Nat) (e : Option Nat) : hd (X ++ Y) e = hd X (hd Y e) := by cases X <;> rfl
theorem lst_app : ∀ (X Y : List Nat) (e : Option Nat), lst (X ++ Y) e = lst Y (lst X e)
  | [], _, _ => rfl
  | a :: X, Y, _ => lst_app X Y (some a)
theorem seg_app {nx : Nat → Option Nat} : ∀ {X Y : List Nat} {e : Option Nat}, seg nx (X ++ Y) e ↔ seg nx X (hd Y e) ∧ seg nx Y e
  | [], Y, e => by simp [seg]
  | a :: X, Y, e => by
    simp only [List.cons_append, seg, hd_app, seg_app (X := X), and_assoc]
theorem sep_app {pv : Nat → Option Nat} : ∀ {X Y : List Nat} {e : Option Nat}, sep pv (X ++ Y) e ↔ sep pv X e ∧ sep pv Y (lst X e)
  | [], Y, e => by simp [sep, lst]
  | a :: X, Y, e => by
    simp only [List.cons_append, sep, lst, sep_app (X := X), and_assoc]
theorem seg_eq {nx nx' : Nat → Option Nat} : ∀ {X : List Nat} {e : Option Nat}, (∀ a, a ∈ X → nx' a = nx a) → seg nx X e → seg nx' X e
  | [], _, _, _ => trivial
  | a :: X, _, h, hs => ⟨(h a List.mem_cons_self).trans hs.1, seg_eq (fun b hb => h b (List.mem_cons_of_mem _ hb)) hs.2⟩
theorem sep_eq {nx nx' : Nat → Option Nat} : ∀ {X : List Nat} {e : Option Nat}, (∀ a, a ∈ X → nx' a = nx a) → sep nx X e → sep nx' X e
  | [], _, _, _ => trivial
  | a :: X, _, h, hs => ⟨(h a List.mem_cons_self).trans hs.1, sep_eq (fun b hb => h b (List.mem_cons_of_mem _ hb)) hs.2⟩
/-- the root goes to the front of the chain -/
theorem chain_front {nx pv : Nat → Option Nat} {root : Nat} {B : List Nat} (h1 : seg nx B none) (h2 : sep pv B none) (hr : root ∈ B) (hnd : B.Nodup) (hne : hd B none ≠ some root) :
    ∃ X first l Y, hd B none = some first ∧ nx root = hd Y none ∧ pv root = some l ∧ first ∈ B ∧ l ∈ B ∧ (∀ y, hd Y none = some y → y ∈ B) ∧ (root :: (X ++ l :: Y)).Perm B ∧ first ≠ root ∧ l ≠ root ∧
    hd (X ++ l :: Y) none = some first ∧
    seg (up1 (up1 nx l (hd Y none)) root (some first)) (root :: (X ++ l :: Y)) none ∧
    ∀ pv1 : Nat → Option Nat, (∀ b, hd Y none ≠ some b → pv1 b = pv b) → (∀ y, hd Y none = some y → pv1 y = some l) → sep (up1 (up1 pv1 first (some root)) root none) (root :: (X ++ l :: Y)) none := by
  obtain ⟨X0, Y, rfl⟩ := List.append_of_mem hr
  have hX0 : X0 ≠ [] := fun e => hne (by rw [e]; rfl)
  obtain ⟨X, l, rfl⟩ : ∃ X l, X0 = X ++ [l] := ⟨X0.dropLast, X0.getLast hX0, (List.dropLast_concat_getLast hX0).symm⟩
  obtain ⟨first, Z, hZ⟩ : ∃ first Z, X ++ [l] = first :: Z := by
    cases X with
    | nil => exact ⟨l, [], rfl⟩
    | cons a X => exact ⟨a, X ++ [l], rfl⟩
  rw [seg_app] at h1
  rw [sep_app] at h2
  obtain ⟨s1, s2, s3⟩ := h1
  obtain ⟨t1, t2, t3⟩ := h2
  rw [List.nodup_append] at hnd
  obtain ⟨n1, n2, n3⟩ := hnd
  rw [List.nodup_cons] at n2
  have nl : l ≠ root := n3 l (by simp) root (by simp)
  have hfl : first ∈ X ++ [l] := by rw [hZ]; simp
  have nf : first ≠ root := n3 first hfl root (by simp)
  have nX : ∀ a, a ∈ X ++ [l] → a ≠ root ∧ a ∉ Y := fun a ha => ⟨n3 a ha root (by simp), fun hy => n3 a ha a (by simp [hy]) rfl⟩
  have nlX : l ∉ X := by
    rw [List.nodup_append] at n1
    exact fun h => n1.2.2 l h l (by simp) rfl
  have nfZ : first ∉ Z := by
    rw [hZ, List.nodup_cons] at n1
    exact n1.1
  have hxl : X ++ l :: Y = (X ++ [l]) ++ Y := by simp
  have hhd : hd (X ++ l :: Y) none = some first := by rw [hxl, hZ]; rfl
  refine ⟨X, first, l, Y, ?_, s2, ?_, ?_, ?_, ?_, ?_, nf, nl, hhd, ?_, ?_⟩
  · rw [hZ]; rfl
  · rw [t2, lst_app]; rfl
  · exact List.mem_append_left _ hfl
  · simp
  · intro y hy
    cases Y with
    | nil => cases hy
    | cons y' Y => cases hy; simp
  · rw [hxl]
    exact (List.perm_middle).symm
  · refine ⟨by rw [up1_s, hhd], ?_⟩
    rw [seg_app] at s1 ⊢
    refine ⟨seg_eq (fun a ha => ?_) s1.1, ?_, seg_eq (fun a ha => ?_) s3⟩
    · rw [up1_n (nX a (by simp [ha])).1, up1_n (fun e => nlX (by rw [← e]; exact ha))]
    · rw [up1_n nl, up1_s]
    · rw [up1_n (fun e => n2.1 (by rw [← e]; exact ha)), up1_n (fun e => (nX l (by simp)).2 (by rw [← e]; exact ha))]
  · intro pv1 p1 p2
    refine ⟨up1_s, ?_⟩
    have nY : ∀ a, a ∈ X ++ [l] → hd Y none ≠ some a := by
      intro a ha e
      cases Y with
      | nil => cases e
      | cons y Y => cases e; exact (nX _ ha).2 (by simp)
    rw [hxl, hZ, List.cons_append]
    rw [hZ] at t1 nX nY
    refine ⟨by rw [up1_n nf, up1_s], ?_⟩
    rw [sep_app]
    refine ⟨sep_eq (fun a ha => ?_) t1.2, ?_⟩
    · rw [up1_n (nX a (by simp [ha])).1, up1_n (fun e => nfZ (by rw [← e]; exact ha)), p1 a (nY a (by simp [ha]))]
    · have hl : lst Z (some first) = some l := by
        have : lst (X ++ [l]) none = some l := by rw [lst_app]; rfl
        rw [hZ] at this
        exact this
      rw [hl]
      cases Y with
      | nil => trivial
      | cons y Y =>
        have ny : y ≠ root := fun e => n2.1 (e ▸ by simp)
        have nyf : y ≠ first := fun e => (nX first (by simp)).2 (e ▸ by simp)
        refine ⟨by rw [up1_n ny, up1_n nyf, p2 y rfl], sep_eq (fun a ha => ?_) t3.2⟩
        rw [up1_n (fun e => n2.1 (by rw [← e]; simp [ha])), up1_n (fun e => (nX first (by simp)).2 (by rw [← e]; simp [ha])), p1 a (fun e => ?_)]
        cases e
        exact (List.nodup_cons.mp n2.2).1 ha
section MRTF
variable {g : Gx} {w w0 : Wd} {S : Nat → Prop} {h : Nat → Int32} {k v : Nat → Nat} {nx P L R pv : Nat → Option Nat} {rd : Nat → Int32} {root : Nat}
theorem mrtf_ct {T n i : Nat} {f : Nat → Option Nat} {B : List Nat} (hT : TW w S h k v nx P L R pv rd) (hTab : w T = some (eN g n f, 5)) (hTS : ¬ S T) (hS : ∀ a, a ∈ B → S a) (hn : n < 2 ^ 30) (hin : i < n) (hix : (nI n - 1) &&& h root = nI i) (hf : f i = hd B none) (hseg : seg nx B none) (hsep : sep pv B none) (hr : root ∈ B) (hnd : B.Nodup) : Ct g yJ28_moveRootToFront cJ28_moveRootToFront 7 none 1 0 0 [.ref T, .ref root] w (fun o w' => o = none ∧ ∃ B' nx' pv' f', B'.Perm B ∧ TW w' S h k v nx' P L R pv' rd ∧ w' T = some (eN g n f', 5) ∧ (∀ j, j ≠ i → f' j = f j) ∧ f' i = hd B' none ∧ seg nx' B' none ∧ sep pv' B' none ∧ FrB (fun b => S b ∨ b = T) w w') noX := by
  refine Ct.of RJ28 "moveRootToFront" ⟨rfl, rfl⟩ (by decide +kernel) (by simp [Value.category]) (Nat.le_of_ble_eq_true rfl) (fun x ok hQ hN => ?_)
  show Z g x 7 0 [some (.ref T), some (.ref root), none, none, none, none, none] [] w 0 0
  have tr := hS root hr
  obtain ⟨b0, Br, hB0⟩ : ∃ b0 Br, B = b0 :: Br := by
    cases B with
    | nil => cases hr
    | cons a B => exact ⟨a, B, rfl⟩
  have tb := hS b0 (by rw [hB0]; simp)
  refine Z.aload_n ok dJ28_moveRootToFront_0 rfl (by first | exact isRf.r _ | exact isRf.n | exact isRf.v _ | assumption) ?_
  refine Z.ifnullR ok dJ28_moveRootToFront_1 ?_
  refine Z.aload_n ok dJ28_moveRootToFront_4 rfl (by first | exact isRf.r _ | exact isRf.n | exact isRf.v _ | assumption) ?_
  refine Z.ifnullR ok dJ28_moveRootToFront_5 ?_
  refine Z.aload_n ok dJ28_moveRootToFront_8 rfl (by first | exact isRf.r _ | exact isRf.n | exact isRf.v _ | assumption) ?_
  refine Z.alen (k0 := 5) ok hTab rfl dJ28_moveRootToFront_9 ?_
  refine Z.dup ok dJ28_moveRootToFront_10 (by first | rfl | exact cat_rf _) ?_
  refine Z.istore_n (i := 2) ok dJ28_moveRootToFront_11 rfl (by decide) ?_
  refine Z.if_le (tgt := 123) ok dJ28_moveRootToFront_12 (by decide) (fun hc => absurd hc (nI_nle (by omega) (by omega))) (fun _ => ?_)
  refine Z.iload_n ok dJ28_moveRootToFront_15 rfl ?_
  refine Z.iconst_1 ok dJ28_moveRootToFront_16 ?_
  refine Z.isub ok dJ28_moveRootToFront_17 ?_
  refine Z.aload_n ok dJ28_moveRootToFront_18 rfl (by first | exact isRf.r _ | exact isRf.n | exact isRf.v _ | assumption) ?_
  refine Z.get (ci := 9) (C := RJ28) (T := TJ28) (N := 11) ok (by first | assumption | exact ws_s | exact hT _ (by assumption) | (rw [ws_n (by assumption)]; assumption)) rfl in_J28 2 (by decide) q1265 (Or.inr q1266) (by rfl) dJ28_moveRootToFront_19 ?_
  refine Z.iand ok dJ28_moveRootToFront_22 ?_
  rw [hix]
  refine Z.istore_n (i := 3) ok dJ28_moveRootToFront_23 rfl (by decide) ?_
  refine Z.aload_n ok dJ28_moveRootToFront_24 rfl (by first | exact isRf.r _ | exact isRf.n | exact isRf.v _ | assumption) ?_
  refine Z.iload_n ok dJ28_moveRootToFront_25 rfl ?_
  refine Z.nald ok hTab (vp_in_nI hin (by omega)) dJ28_moveRootToFront_26 ?_
  rw [nI_clamp (by omega), hf, hB0]
  show Z g x 7 _ _ [.ref b0] w 0 0
  refine Z.castS (ci := 9) (q := (RJ28, TJ28, 11)) ok (hT _ tb) rfl rfl q1250 dJ28_moveRootToFront_27 ?_
  refine Z.astore ok dJ28_moveRootToFront_30 (by decide) (by first | exact isRf.r _ | exact isRf.n | exact isRf.v _ | assumption) ?_
  refine Z.aload_n ok dJ28_moveRootToFront_32 rfl (by first | exact isRf.r _ | exact isRf.n | exact isRf.v _ | assumption) ?_
  refine Z.aload ok dJ28_moveRootToFront_33 rfl (by first | exact isRf.r _ | exact isRf.n | exact isRf.v _ | assumption) ?_
  show Z g x 7 35 _ [va_rf (some b0), va_rf (some root)] w _ _
  have fin : ∀ (Lc : List (Option Value)) (w1 : Wd), (∃ B' nx' pv' f', B'.Perm B ∧ TW w1 S h k v nx' P L R pv' rd ∧ w1 T = some (eN g n f', 5) ∧ (∀ j, j ≠ i → f' j = f j) ∧ f' i = hd B' none ∧ seg nx' B' none ∧ sep pv' B' none ∧ FrB (fun b => S b ∨ b = T) w w1) → Z g x 7 102 Lc [] w1 0 0 := by
    intro Lc w1 hw
    refine Z.gets ok (fun U h => h.ss.2.2.2.1) q1305 (Or.inl rfl) dJ28_moveRootToFront_102 ?_
    refine Z.if_ne (tgt := 123) ok dJ28_moveRootToFront_105 (by decide) (fun _ => ?_) (fun hc => absurd hc (by decide))
    refine Z.vret ok hQ rfl dJ28_moveRootToFront_123 ?_
    exact ⟨rfl, hw⟩
  by_cases he : root = b0
  · refine Z.acmp_eq (tgt := 102) ok dJ28_moveRootToFront_35 (by decide) (fun _ => ?_) (fun hc => absurd (by rw [he]) hc)
    exact fin _ _ ⟨B, nx, pv, f, List.Perm.refl _, hT, hTab, fun _ _ => rfl, hf, hseg, hsep, FrB.rf⟩
  · refine Z.acmp_eq (tgt := 102) ok dJ28_moveRootToFront_35 (by decide) (fun hc => absurd hc (fun e => he (Option.some.inj e))) (fun _ => ?_)
    obtain ⟨X, first, l, Y, c1, c2, c3, c4, c5, c6, c7, c8, c9, c10, c11, c12⟩ := chain_front hseg hsep hr hnd (by rw [hB0]; exact fun e => he (Option.some.inj e).symm)
    have e0 : first = b0 := by rw [hB0] at c1; exact (Option.some.inj c1).symm
    subst e0
    have tl := hS l c5
    have nTr : root ≠ T := fun e => hTS (e ▸ tr)
    refine Z.aload_n ok dJ28_moveRootToFront_38 rfl (by first | exact isRf.r _ | exact isRf.n | exact isRf.v _ | assumption) ?_
    refine Z.iload_n ok dJ28_moveRootToFront_39 rfl ?_
    refine Z.aload_n ok dJ28_moveRootToFront_40 rfl (by first | exact isRf.r _ | exact isRf.n | exact isRf.v _ | assumption) ?_
    refine Z.nast ok hTab (by decide) (hT _ tr) rfl (Or.inr (q1658)) (vp_in_nI hin (by omega)) dJ28_moveRootToFront_41 ?_
    rw [nI_clamp (by omega)]
    have hT1 : TW (wset w T (eN g n (va_up f i (some root))) 5) S h k v nx P L R pv rd := fun a ha => (ws_n (fun e => hTS (by rw [← e]; exact ha))).trans (hT a ha)
    have hTab1 : wset w T (eN g n (va_up f i (some root))) 5 T = some (eN g n (va_up f i (some root)), 5) := ws_s
    have hF1 : ∀ b, b ≠ T → wset w T (eN g n (va_up f i (some root))) 5 b = w b := fun b hb => ws_n hb
    generalize wset w T (eN g n (va_up f i (some root))) 5 = w1 at hT1 hTab1 hF1 ⊢
    clear hT
    have hT := hT1
    have hB : FrB S w1 w1 := FrB.rf
    refine Z.aload_n ok dJ28_moveRootToFront_42 rfl (by first | exact isRf.r _ | exact isRf.n | exact isRf.v _ | assumption) ?_
    refine Z.get (ci := 9) (C := RJ28) (T := TJ28) (N := 11) ok (by first | assumption | exact ws_s | exact hT _ (by assumption) | (rw [ws_n (by assumption)]; assumption)) rfl in_J28 9 (by decide) q1330 (Or.inl rfl) (by rfl) dJ28_moveRootToFront_43 ?_
    rw [c3]
    refine Z.astore ok dJ28_moveRootToFront_46 (by decide) (by first | exact isRf.r _ | exact isRf.n | exact isRf.v _ | assumption) ?_
    refine Z.aload_n ok dJ28_moveRootToFront_48 rfl (by first | exact isRf.r _ | exact isRf.n | exact isRf.v _ | assumption) ?_
    refine Z.get (ci := 9) (C := RJ28) (T := TJ28) (N := 11) ok (by first | assumption | exact ws_s | exact hT _ (by assumption) | (rw [ws_n (by assumption)]; assumption)) rfl in_J28 5 (by decide) q1275 (Or.inr q1276) (by rfl) dJ28_moveRootToFront_49 ?_
    rw [c2]
    refine Z.dup ok dJ28_moveRootToFront_52 (by first | rfl | exact cat_rf _) ?_
    refine Z.astore ok dJ28_moveRootToFront_53 (by decide) (by first | exact isRf.r _ | exact isRf.n | exact isRf.v _ | assumption) ?_
    have key : ∀ (pv1 : Nat → Option Nat) (w2 : Wd), (∀ b, hd Y none ≠ some b → pv1 b = pv b) → (∀ y, hd Y none = some y → pv1 y = some l) → TW w2 S h k v nx P L R pv1 rd → FrB S w1 w2 → Z g x 7 68 [some (.ref T), some (.ref root), some (.int (nI n)), some (.int (nI i)), some (.ref first), some (va_rf (hd Y none)), some (va_rf (some l))] [] w2 0 0 := by
      intro pv1 w2 p1 p2 hT hB
      refine Z.aload ok dJ28_moveRootToFront_68 rfl (by first | exact isRf.r _ | exact isRf.n | exact isRf.v _ | assumption) ?_
      refine Z.ifnullR ok dJ28_moveRootToFront_70 ?_
      refine Z.aload ok dJ28_moveRootToFront_73 rfl (by first | exact isRf.r _ | exact isRf.n | exact isRf.v _ | assumption) ?_
      refine Z.aload ok dJ28_moveRootToFront_75 rfl (by first | exact isRf.r _ | exact isRf.n | exact isRf.v _ | assumption) ?_
      refine Z.put (ci := 9) (C := RJ28) (T := TJ28) (N := 11) (ty0 := tyJ28) ok (by first | assumption | exact ws_s | exact hT _ (by assumption) | (rw [ws_n (by assumption)]; assumption)) (by first | decide | assumption) rfl in_J28 tyJ28_ok nmJ28 5 (by decide) q1275 (Or.inr q1276) rfl (okV_o (by first | exact isRf.r _ | exact isRf.n | exact isRf.v _ | assumption)) (by rfl) dJ28_moveRootToFront_77 ?_
      refine Z.tw_nx (hd Y none) hT hB (by assumption) (fun w3 hT hB => ?_)
      refine Z.aload ok dJ28_moveRootToFront_80 rfl (by first | exact isRf.r _ | exact isRf.n | exact isRf.v _ | assumption) ?_
      refine Z.ifnullR ok dJ28_moveRootToFront_82 ?_
      refine Z.aload ok dJ28_moveRootToFront_85 rfl (by first | exact isRf.r _ | exact isRf.n | exact isRf.v _ | assumption) ?_
      refine Z.aload_n ok dJ28_moveRootToFront_87 rfl (by first | exact isRf.r _ | exact isRf.n | exact isRf.v _ | assumption) ?_
      refine Z.put (ci := 9) (C := RJ28) (T := TJ28) (N := 11) (ty0 := tyJ28) ok (by first | assumption | exact ws_s | exact hT _ (by assumption) | (rw [ws_n (by assumption)]; assumption)) (by first | decide | assumption) rfl in_J28 tyJ28_ok nmJ28 9 (by decide) q1330 (Or.inl rfl) rfl (okV_o (by first | exact isRf.r _ | exact isRf.n | exact isRf.v _ | assumption)) (by rfl) dJ28_moveRootToFront_88 ?_
      refine Z.tw_pv (some root) hT hB (by assumption) (fun w4 hT hB => ?_)
      refine Z.aload_n ok dJ28_moveRootToFront_91 rfl (by first | exact isRf.r _ | exact isRf.n | exact isRf.v _ | assumption) ?_
      refine Z.aload ok dJ28_moveRootToFront_92 rfl (by first | exact isRf.r _ | exact isRf.n | exact isRf.v _ | assumption) ?_
      refine Z.put (ci := 9) (C := RJ28) (T := TJ28) (N := 11) (ty0 := tyJ28) ok (by first | assumption | exact ws_s | exact hT _ (by assumption) | (rw [ws_n (by assumption)]; assumption)) (by first | decide | assumption) rfl in_J28 tyJ28_ok nmJ28 5 (by decide) q1275 (Or.inr q1276) rfl (okV_o (by first | exact isRf.r _ | exact isRf.n | exact isRf.v _ | assumption)) (by rfl) dJ28_moveRootToFront_94 ?_
      refine Z.tw_nx (some first) hT hB (by assumption) (fun w5 hT hB => ?_)
      refine Z.aload_n ok dJ28_moveRootToFront_97 rfl (by first | exact isRf.r _ | exact isRf.n | exact isRf.v _ | assumption) ?_
      refine Z.null ok dJ28_moveRootToFront_98 ?_
      refine Z.put (ci := 9) (C := RJ28) (T := TJ28) (N := 11) (ty0 := tyJ28) ok (by first | assumption | exact ws_s | exact hT _ (by assumption) | (rw [ws_n (by assumption)]; assumption)) (by first | decide | assumption) rfl in_J28 tyJ28_ok nmJ28 9 (by decide) q1330 (Or.inl rfl) rfl (okV_o (by first | exact isRf.r _ | exact isRf.n | exact isRf.v _ | assumption)) (by rfl) dJ28_moveRootToFront_99 ?_
      refine Z.tw_pv (none) hT hB (by assumption) (fun w6 hT hB => ?_)
      refine fin _ _ ⟨root :: (X ++ l :: Y), _, _, va_up f i (some root), c7, hT, (hB T hTS).trans hTab1, fun j hj => if_neg hj, if_pos rfl, c11, c12 pv1 p1 p2, fun b hb => ?_⟩
      rw [hB b (fun h => hb (Or.inl h)), hF1 b (fun h => hb (Or.inr h))]
    refine Z.ifnull (tgt := 68) ok dJ28_moveRootToFront_55 (by decide) (fun hy => ?_) (fun y hy => ?_)
    · refine key pv w1 (fun _ _ => rfl) (fun y e => ?_) hT hB
      rw [hy] at e
      cases e
    · have ty := hS y (c6 y hy)
      have key := key
      rw [hy] at key ⊢
      refine Z.aload ok dJ28_moveRootToFront_58 rfl (by first | exact isRf.r _ | exact isRf.n | exact isRf.v _ | assumption) ?_
      refine Z.castS (ci := 9) (q := (RJ28, TJ28, 11)) ok (by first | assumption | exact ws_s | exact hT _ (by assumption) | (rw [ws_n (by assumption)]; assumption)) rfl rfl q1250 dJ28_moveRootToFront_60 ?_
      refine Z.aload ok dJ28_moveRootToFront_63 rfl (by first | exact isRf.r _ | exact isRf.n | exact isRf.v _ | assumption) ?_
      refine Z.put (ci := 9) (C := RJ28) (T := TJ28) (N := 11) (ty0 := tyJ28) ok (by first | assumption | exact ws_s | exact hT _ (by assumption) | (rw [ws_n (by assumption)]; assumption)) (by first | decide | assumption) rfl in_J28 tyJ28_ok nmJ28 9 (by decide) q1330 (Or.inl rfl) rfl (okV_o (by first | exact isRf.r _ | exact isRf.n | exact isRf.v _ | assumption)) (by rfl) dJ28_moveRootToFront_65 ?_
      refine Z.tw_pv (some l) hT hB (by assumption) (fun w2 hT hB => ?_)
      exact key _ w2 (fun b hb => up1_n (fun e => hb (by rw [e]))) (fun y' e => by cases e; exact up1_s) hT hB
end MRTF
