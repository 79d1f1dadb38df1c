/-! ===== TREE NODES: root, find ===== -/
section TNODE
variable {g : Gx} {w w0 : Wd} {S S2 : Nat → Prop} {h : Nat → Int32} {k v : Nat → Nat} {nx P L R pv : Nat → Option Nat} {rd : Nat → Int32} {lo hi : Nat → Int} {root p : Nat}
theorem root_loop {x : Cx} {Post : Option Value → Wd → Prop} (ok : OK g x RJ28 cJ28_root 3 1 (some (.object "java/util/HashMap$TreeNode"))) (hQ : EndQ g x Post noX) (hT : TW w S h k v nx P L R pv rd) (hsub : ∀ a, S2 a → S a) (H : Tr S2 root (fun a => (h a).toInt) P L R lo hi) (hp : Post (some (.ref root)) w) : ∀ (n a : Nat) (l0 l2 : Option Value), S2 a → 4294967299 - (hi a - lo a) ≤ (n : Int) → Z g x 3 2 [l0, some (.ref a), l2] [] w 0 0
  | 0, a, l0, l2, sa, hn => by
    have := H.bd a sa
    omega
  | n + 1, a, l0, l2, sa, hn => by
    have ta := hsub a sa
    refine Z.aload_n ok dJ28_root_2 rfl (by first | exact isRf.r _ | exact isRf.n | exact isRf.v _ | assumption) ?_
    refine Z.get (ci := 9) (C := RJ28) (T := TJ28) (N := 11) ok (by first | assumption | exact ws_s | exact hT _ (by assumption) | (rw [ws_n (by assumption)]; assumption)) rfl in_J28 6 (by decide) q1327 (Or.inl rfl) (by rfl) dJ28_root_3 ?_
    refine Z.dup ok dJ28_root_6 (by first | rfl | exact cat_rf _) ?_
    refine Z.astore_n (i := 2) ok dJ28_root_7 rfl (by decide) (by first | exact isRf.r _ | exact isRf.n | exact isRf.v _ | assumption) ?_
    refine Z.ifnonnull (tgt := 13) ok dJ28_root_8 (by decide) (fun b hc => ?_) (fun hc => ?_)
    · have hw := H.wid sa hc
      rw [hc]
      refine Z.aload_n ok dJ28_root_13 rfl (by first | exact isRf.r _ | exact isRf.n | exact isRf.v _ | assumption) ?_
      refine Z.astore_n (i := 1) ok dJ28_root_14 rfl (by decide) (by first | exact isRf.r _ | exact isRf.n | exact isRf.v _ | assumption) ?_
      refine Z.goto (tgt := 2) ok dJ28_root_15 (by decide) ?_
      exact root_loop ok hQ hT hsub H hp n b l0 _ hw.1 (by omega)
    · refine Z.aload_n ok dJ28_root_11 rfl (by first | exact isRf.r _ | exact isRf.n | exact isRf.v _ | assumption) ?_
      refine Z.aret ok hQ (by first | exact Or.inl ⟨_, rfl⟩ | exact Or.inr ⟨_, rfl⟩) (by first | exact isRf.r _ | exact isRf.n | exact isRf.v _ | assumption) dJ28_root_12 ?_
      rw [(H.rt a sa).mp hc]
      exact hp
theorem root_ct (hT : TW w S h k v nx P L R pv rd) (hsub : ∀ a, S2 a → S a) (H : Tr S2 root (fun a => (h a).toInt) P L R lo hi) (sp : S2 p) : Ct g yJ28_root cJ28_root 3 (some (.object "java/util/HashMap$TreeNode")) 1 0 0 [.ref p] w (PW (some (.ref root)) w) noX := by
  refine Ct.of RJ28 "root" ⟨rfl, rfl⟩ (by decide +kernel) (by simp [Value.category]) (Nat.le_of_ble_eq_true rfl) (fun x ok hQ hN => ?_)
  show Z g x 3 0 [some (.ref p), none, none] [] w 0 0
  refine Z.aload_n ok dJ28_root_0 rfl (by first | exact isRf.r _ | exact isRf.n | exact isRf.v _ | assumption) ?_
  refine Z.astore_n (i := 1) ok dJ28_root_1 rfl (by decide) (by first | exact isRf.r _ | exact isRf.n | exact isRf.v _ | assumption) ?_
  exact root_loop ok hQ hT hsub H ⟨rfl, rfl⟩ (4294967299 - (hi p - lo p)).toNat p _ _ sp (by omega)
theorem i32le {a b : Int32} : a ≤ b ↔ a.toInt ≤ b.toInt := Int32.le_iff_toInt_le
theorem i32lt {a b : Int32} : a < b ↔ a.toInt < b.toInt := Int32.lt_iff_toInt_lt
def FindP (w : Wd) (S2 : Nat → Prop) (h : Nat → Int32) (hk : Int32) : Option Value → Wd → Prop := fun r w' => w = w' ∧ ∃ o, r = some (va_rf o) ∧ (∀ c, o = some c → S2 c ∧ h c = hk) ∧ (o = none → ∀ c, S2 c → h c ≠ hk)
theorem find_loop {x : Cx} {hk : Int32} {kq : Nat} (ok : OK g x RJ28 cJ28_find 11 3 (some (.object "java/util/HashMap$TreeNode"))) (hQ : EndQ g x (FindP w S2 h hk) noX) (hT : TW w S h k v nx P L R pv rd) (hsub : ∀ a, S2 a → S a) (H : Tr S2 root (fun a => (h a).toInt) P L R lo hi) (hq : ∀ c, S2 c → h c = hk → ∃ xs, isStr g w kq xs ∧ isStr g w (k c) xs ∧ xs.length < 2 ^ 31) : ∀ (n a : Nat) (l0 l5 l6 l7 l8 l9 l10 : Option Value), S2 a → hi a - lo a ≤ (n : Int) → (∀ c, S2 c → h c = hk → Anc S2 P a c) → Z g x 11 3 [l0, some (.int hk), some (.ref kq), some .null, some (.ref a), l5, l6, l7, l8, l9, l10] [] w 0 0
  | 0, a, l0, l5, l6, l7, l8, l9, l10, sa, hn, _ => by
    have := H.ord a sa
    omega
  | n + 1, a, l0, l5, l6, l7, l8, l9, l10, sa, hn, hA => by
    have ta := hsub a sa
    have oa := H.ord a sa
    have step : ∀ (ch : Option Nat) (l5 l7 l8 l9 : Option Value), (∀ b, ch = some b → S2 b ∧ hi b - lo b ≤ n) → (∀ c, S2 c → h c = hk → ∃ q, ch = some q ∧ S2 q ∧ Anc S2 P q c) → Z g x 11 165 [l0, some (.int hk), some (.ref kq), some .null, some (va_rf ch), l5, l6, l7, l8, l9, l10] [] w 0 0 := by
      intro ch l5 l7 l8 l9 h1 h2
      refine Z.aload ok dJ28_find_165 rfl (by first | exact isRf.r _ | exact isRf.n | exact isRf.v _ | assumption) ?_
      refine Z.ifnonnull (tgt := 3) ok dJ28_find_167 (by decide) (fun b hc => ?_) (fun hc => ?_)
      · subst hc
        refine find_loop ok hQ hT hsub H hq n b l0 l5 l6 l7 l8 l9 l10 (h1 b rfl).1 (h1 b rfl).2 (fun c sc ec => ?_)
        obtain ⟨q, e1, -, e2⟩ := h2 c sc ec
        cases e1
        exact e2
      · subst hc
        refine Z.null ok dJ28_find_170 ?_
        refine Z.aret ok hQ (by first | exact Or.inl ⟨_, rfl⟩ | exact Or.inr ⟨_, rfl⟩) (by first | exact isRf.r _ | exact isRf.n | exact isRf.v _ | assumption) dJ28_find_171 ?_
        refine ⟨rfl, none, rfl, fun c hc => (by cases hc), fun _ c sc ec => ?_⟩
        obtain ⟨q, e1, -⟩ := h2 c sc ec
        cases e1
    refine Z.aload ok dJ28_find_3 rfl (by first | exact isRf.r _ | exact isRf.n | exact isRf.v _ | assumption) ?_
    refine Z.get (ci := 9) (C := RJ28) (T := TJ28) (N := 11) ok (by first | assumption | exact ws_s | exact hT _ (by assumption) | (rw [ws_n (by assumption)]; assumption)) rfl in_J28 7 (by decide) q1328 (Or.inl rfl) (by rfl) dJ28_find_5 ?_
    refine Z.astore ok dJ28_find_8 (by decide) (by first | exact isRf.r _ | exact isRf.n | exact isRf.v _ | assumption) ?_
    refine Z.aload ok dJ28_find_10 rfl (by first | exact isRf.r _ | exact isRf.n | exact isRf.v _ | assumption) ?_
    refine Z.get (ci := 9) (C := RJ28) (T := TJ28) (N := 11) ok (by first | assumption | exact ws_s | exact hT _ (by assumption) | (rw [ws_n (by assumption)]; assumption)) rfl in_J28 8 (by decide) q1329 (Or.inl rfl) (by rfl) dJ28_find_12 ?_
    refine Z.astore ok dJ28_find_15 (by decide) (by first | exact isRf.r _ | exact isRf.n | exact isRf.v _ | assumption) ?_
    refine Z.aload ok dJ28_find_17 rfl (by first | exact isRf.r _ | exact isRf.n | exact isRf.v _ | assumption) ?_
    refine Z.get (ci := 9) (C := RJ28) (T := TJ28) (N := 11) ok (by first | assumption | exact ws_s | exact hT _ (by assumption) | (rw [ws_n (by assumption)]; assumption)) rfl in_J28 2 (by decide) q1265 (Or.inr q1266) (by rfl) dJ28_find_19 ?_
    refine Z.dup ok dJ28_find_22 (by first | rfl | exact cat_rf _) ?_
    refine Z.istore ok dJ28_find_23 (by decide) ?_
    refine Z.iload_n ok dJ28_find_25 rfl ?_
    by_cases c1 : h a ≤ hk
    · refine Z.icmp_le (tgt := 36) ok dJ28_find_26 (by decide) (fun _ => ?_) (fun hc => absurd c1 hc)
      refine Z.iload ok dJ28_find_36 rfl ?_
      refine Z.iload_n ok dJ28_find_38 rfl ?_
      by_cases c2 : hk ≤ h a
      · refine Z.icmp_ge (tgt := 49) ok dJ28_find_39 (by decide) (fun _ => ?_) (fun hc => absurd c2 hc)
        have ee : h a = hk := Int32.toInt_inj.mp (by have := i32le.mp c1; have := i32le.mp c2; omega)
        obtain ⟨xs, s1, s2, s3⟩ := hq a sa ee
        obtain ⟨_, _, _, s1', _⟩ := id s1
        refine Z.aload ok dJ28_find_49 rfl (by first | exact isRf.r _ | exact isRf.n | exact isRf.v _ | assumption) ?_
        refine Z.get (ci := 9) (C := RJ28) (T := TJ28) (N := 11) ok (by first | assumption | exact ws_s | exact hT _ (by assumption) | (rw [ws_n (by assumption)]; assumption)) rfl in_J28 3 (by decide) q1269 (Or.inr q1270) (by rfl) dJ28_find_51 ?_
        refine Z.dup ok dJ28_find_54 (by first | rfl | exact cat_rf _) ?_
        refine Z.astore ok dJ28_find_55 (by decide) (by first | exact isRf.r _ | exact isRf.n | exact isRf.v _ | assumption) ?_
        refine Z.aload_n ok dJ28_find_57 rfl (by first | exact isRf.r _ | exact isRf.n | exact isRf.v _ | assumption) ?_
        show Z g x 11 58 _ [va_rf (some kq), va_rf (some (k a))] w _ _
        have fin : ∀ (l5 l7 l8 l9 : Option Value), Z g x 11 74 [l0, some (.int hk), some (.ref kq), some .null, some (.ref a), l5, l6, l7, l8, l9, l10] [] w 0 0 := by
          intro l5 l7 l8 l9
          refine Z.aload ok dJ28_find_74 rfl (by first | exact isRf.r _ | exact isRf.n | exact isRf.v _ | assumption) ?_
          refine Z.aret ok hQ (by first | exact Or.inl ⟨_, rfl⟩ | exact Or.inr ⟨_, rfl⟩) (by first | exact isRf.r _ | exact isRf.n | exact isRf.v _ | assumption) dJ28_find_76 ?_
          exact ⟨rfl, some a, rfl, fun c hc => by cases hc; exact ⟨sa, ee⟩, fun hc => by cases hc⟩
        refine Z.acmp_eq (tgt := 74) ok dJ28_find_58 (by decide) (fun hc => ?_) (fun hc => ?_)
        · exact fin _ _ _ _
        · refine Z.aload_n ok dJ28_find_61 rfl (by first | exact isRf.r _ | exact isRf.n | exact isRf.v _ | assumption) ?_
          refine Z.ifnullR ok dJ28_find_62 ?_
          refine Z.aload_n ok dJ28_find_65 rfl (by first | exact isRf.r _ | exact isRf.n | exact isRf.v _ | assumption) ?_
          refine Z.aload ok dJ28_find_66 rfl (by first | exact isRf.r _ | exact isRf.n | exact isRf.v _ | assumption) ?_
          refine Z.callU (ci := 11) (q := (RJ14, TJ14, 4)) (C := RJ14) (owner := "java/lang/Object") ok (strEq_ct s1 s2 s3) (by first | assumption | exact ws_s | exact hT _ (by assumption) | (rw [ws_n (by assumption)]; assumption)) rfl rfl q723 q681 q680 q709 q691 (Or.inl q705) q34 q692 nk_J29_equals rfl (by decide) (by first | exact Nat.le_of_ble_eq_true rfl | simp [Value.category, cat_rf]) (Nat.le_refl _) (Nat.le_refl _) dJ28_find_68 rfl ZX.no (fun v w1 hp => ?_)
          obtain ⟨rfl, rfl⟩ := hp
          refine Z.if_eq (tgt := 77) ok dJ28_find_71 (by decide) (fun hc => absurd hc (by decide)) (fun _ => ?_)
          exact fin _ _ _ _
      · refine Z.icmp_ge (tgt := 49) ok dJ28_find_39 (by decide) (fun hc => absurd hc c2) (fun _ => ?_)
        refine Z.aload ok dJ28_find_42 rfl (by first | exact isRf.r _ | exact isRf.n | exact isRf.v _ | assumption) ?_
        refine Z.astore ok dJ28_find_44 (by decide) (by first | exact isRf.r _ | exact isRf.n | exact isRf.v _ | assumption) ?_
        refine Z.goto (tgt := 165) ok dJ28_find_46 (by decide) ?_
        refine step (R a) _ _ _ _ (fun b hb => ?_) (fun c sc ec => ?_)
        · obtain ⟨b1, -, b3, b4⟩ := H.rg a b sa hb
          exact ⟨b1, by (try simp only [] at b3 oa); omega⟩
        · rcases H.down (hA c sc ec) sc (fun e => c2 (i32le.mpr (by simp only [ec] at e; omega))) with ⟨l, _⟩ | ⟨-, q, q1, q2, q3⟩
          · exfalso
            simp only [ec] at l
            exact c2 (i32le.mpr (by omega))
          · exact ⟨q, q1, q2, q3⟩
    · refine Z.icmp_le (tgt := 36) ok dJ28_find_26 (by decide) (fun hc => absurd hc c1) (fun _ => ?_)
      refine Z.aload ok dJ28_find_29 rfl (by first | exact isRf.r _ | exact isRf.n | exact isRf.v _ | assumption) ?_
      refine Z.astore ok dJ28_find_31 (by decide) (by first | exact isRf.r _ | exact isRf.n | exact isRf.v _ | assumption) ?_
      refine Z.goto (tgt := 165) ok dJ28_find_33 (by decide) ?_
      refine step (L a) _ _ _ _ (fun b hb => ?_) (fun c sc ec => ?_)
      · obtain ⟨b1, -, b3, b4⟩ := H.lf a b sa hb
        exact ⟨b1, by (try simp only [] at b4 oa); omega⟩
      · rcases H.down (hA c sc ec) sc (fun e => c1 (i32le.mpr (by simp only [ec] at e; omega))) with ⟨-, q, q1, q2, q3⟩ | ⟨l, _⟩
        · exact ⟨q, q1, q2, q3⟩
        · exfalso
          simp only [ec] at l
          exact c1 (i32le.mpr (by omega))
theorem find_ct {hk : Int32} {kq : Nat} (hT : TW w S h k v nx P L R pv rd) (hsub : ∀ a, S2 a → S a) (H : Tr S2 root (fun a => (h a).toInt) P L R lo hi) (hq : ∀ c, S2 c → h c = hk → ∃ xs, isStr g w kq xs ∧ isStr g w (k c) xs ∧ xs.length < 2 ^ 31) : Ct g yJ28_find cJ28_find 11 (some (.object "java/util/HashMap$TreeNode")) 3 0 0 [.ref root, .int hk, .ref kq, .null] w (FindP w S2 h hk) noX := by
  refine Ct.of RJ28 "find" ⟨rfl, rfl⟩ (by decide +kernel) (by simp [Value.category]) (Nat.le_of_ble_eq_true rfl) (fun x ok hQ hN => ?_)
  show Z g x 11 0 [some (.ref root), some (.int hk), some (.ref kq), some (.null), none, none, none, none, none, none, none] [] w 0 0
  refine Z.aload_n ok dJ28_find_0 rfl (by first | exact isRf.r _ | exact isRf.n | exact isRf.v _ | assumption) ?_
  refine Z.astore ok dJ28_find_1 (by decide) (by first | exact isRf.r _ | exact isRf.n | exact isRf.v _ | assumption) ?_
  exact find_loop ok hQ hT hsub H hq (hi root - lo root).toNat root _ _ _ _ _ _ _ H.inS (by omega) (fun c sc _ => H.anc sc)
theorem getTree_ct {hk : Int32} {kq : Nat} (hT : TW w S h k v nx P L R pv rd) (hsub : ∀ a, S2 a → S a) (H : Tr S2 root (fun a => (h a).toInt) P L R lo hi) (sp : S2 p) (hq : ∀ c, S2 c → h c = hk → ∃ xs, isStr g w kq xs ∧ isStr g w (k c) xs ∧ xs.length < 2 ^ 31) : Ct g yJ28_getTreeNode cJ28_getTreeNode 3 (some (.object "java/util/HashMap$TreeNode")) 4 0 0 [.ref p, .int hk, .ref kq] w (FindP w S2 h hk) noX := by
  refine Ct.of RJ28 "getTreeNode" ⟨rfl, rfl⟩ (by decide +kernel) (by simp [Value.category]) (Nat.le_of_ble_eq_true rfl) (fun x ok hQ hN => ?_)
  show Z g x 3 0 [some (.ref p), some (.int hk), some (.ref kq)] [] w 0 0
  have tp := hsub p sp
  have tr := hsub root H.inS
  have key : Z g x 3 15 [some (.ref p), some (.int hk), some (.ref kq)] [.ref root] w 0 0 := by
    refine Z.iload_n ok dJ28_getTreeNode_15 rfl ?_
    refine Z.aload_n ok dJ28_getTreeNode_16 rfl (by first | exact isRf.r _ | exact isRf.n | exact isRf.v _ | assumption) ?_
    refine Z.null ok dJ28_getTreeNode_17 ?_
    refine Z.callV (ci := 9) (q := (RJ28, TJ28, 11)) (C := RJ28) ok (find_ct hT hsub H hq) (hT _ tr) rfl rfl q719 q720 (Or.inl q721) q54 q722 nk_J28_find rfl (by decide) (by first | exact Nat.le_of_ble_eq_true rfl | simp [Value.category, cat_rf]) (Nat.le_refl _) (Nat.le_refl _) dJ28_getTreeNode_18 rfl ZX.no (fun v w1 hp => ?_)
    obtain ⟨rfl, o, rfl, a1, a2⟩ := hp
    refine Z.aret ok hQ (by first | exact Or.inl ⟨_, rfl⟩ | exact Or.inr ⟨_, rfl⟩) (by first | exact isRf.r _ | exact isRf.n | exact isRf.v _ | assumption) dJ28_getTreeNode_21 ?_
    exact ⟨rfl, o, rfl, a1, a2⟩
  refine Z.aload_n ok dJ28_getTreeNode_0 rfl (by first | exact isRf.r _ | exact isRf.n | exact isRf.v _ | assumption) ?_
  refine Z.get (ci := 9) (C := RJ28) (T := TJ28) (N := 11) ok (by first | assumption | exact ws_s | exact hT _ (by assumption) | (rw [ws_n (by assumption)]; assumption)) rfl in_J28 6 (by decide) q1327 (Or.inl rfl) (by rfl) dJ28_getTreeNode_1 ?_
  refine Z.ifnull (tgt := 14) ok dJ28_getTreeNode_4 (by decide) (fun hc => ?_) (fun b hc => ?_)
  · refine Z.aload_n ok dJ28_getTreeNode_14 rfl (by first | exact isRf.r _ | exact isRf.n | exact isRf.v _ | assumption) ?_
    rw [(H.rt p sp).mp hc]
    rw [(H.rt p sp).mp hc] at key
    exact key
  · refine Z.aload_n ok dJ28_getTreeNode_7 rfl (by first | exact isRf.r _ | exact isRf.n | exact isRf.v _ | assumption) ?_
    refine Z.callV (ci := 9) (q := (RJ28, TJ28, 11)) (C := RJ28) ok (root_ct hT hsub H sp) (hT _ tp) rfl rfl q715 q716 (Or.inl q717) q54 q718 nk_J28_root rfl (by decide) (by first | exact Nat.le_of_ble_eq_true rfl | simp [Value.category, cat_rf]) (Nat.le_refl _) (Nat.le_refl _) dJ28_getTreeNode_8 rfl ZX.no (fun v w1 hp => ?_)
    obtain ⟨rfl, rfl⟩ := hp
    refine Z.goto (tgt := 15) ok dJ28_getTreeNode_11 (by decide) ?_
    exact key
end TNODE
