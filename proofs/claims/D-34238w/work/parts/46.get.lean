/-! ===== HASHMAP: getNode, get, containsKey, <init> ===== -/
/-- at b lies a node with the entry d -/
def isNdV (w : Wd) (b : Nat) (d : Dt) : Prop := (∃ n, w b = some (ob 8 [.int d.1, .ref d.2.1, .ref d.2.2, n], 5)) ∨ ∃ z3 z4 z5 z6 z7 z8, w b = some (ob 9 [.null, .null, .int d.1, .ref d.2.1, .ref d.2.2, z3, z4, z5, z6, z7, z8], 5)
theorem FrK.FrP {g : Gx} {w w' : Wd} (h : FrK g w w') : FrP g w w' := ⟨fun b y t hb _ _ h6 => h.1 b y t hb h6, h.2⟩
section GET
variable {g : Gx} {w w0 : Wd} {m T e : Nat} {mc : Int32} {lf : UInt32} {f : Nat → Option Nat} {E : List Dt}
def GnP (g : Gx) (w : Wd) (m : Nat) (E : List Dt) (hk : Int32) : Option Value → Wd → Prop := fun r w' => FrK g w w' ∧ isHM g w' m E ∧ ∃ o, r = some (va_rf o) ∧ (∀ c, o = some c → ∃ d, d ∈ E ∧ d.1 = hk ∧ isNdV w' c d) ∧ (o = none → ∀ d, d ∈ E → d.1 ≠ hk)
theorem gn_none {x : Cx} {hk : Int32} {L : List (Option Value)} (ok : OK g x RJ4 cJ4_getNode 8 6 (some (.object "java/util/HashMap$Node"))) (hQ : EndQ g x (GnP g w0 m E hk) noX) (hF : FrK g w0 w) (hM : isHM g w m E) (hne : ∀ d, d ∈ E → d.1 ≠ hk) : Z g x 8 148 L [] w 0 0 := by
  refine Z.null ok dJ4_getNode_148 ?_
  refine Z.aret ok hQ (by first | exact Or.inl ⟨_, rfl⟩ | exact Or.inr ⟨_, rfl⟩) (by first | exact isRf.r _ | exact isRf.n | exact isRf.v _ | assumption) dJ4_getNode_149 ?_
  exact ⟨hF, hM, none, rfl, fun c hc => (by cases hc), fun _ => hne⟩
theorem gn_step {x : Cx} {hk : Int32} {kq i p : Nat} {nxt : Option Nat} {C : List Nat} {h : Nat → Int32} {k v : Nat → Nat} {nx : Nat → Option Nat} {l0 l2 l3 l5 l7 : Option Value} (ok : OK g x RJ4 cJ4_getNode 8 6 (some (.object "java/util/HashMap$Node"))) (hQ : EndQ g x (GnP g w0 m E hk) noX) (hF : FrK g w0 w) (hM : isHM g w m E) (hp : (C.map (dat h k v)).Perm (E.filter (inBk e i))) (hN : NW w (fun a => a ∈ C) h k v nx) (tp : p ∈ C) (hx : nx p = nxt) (hq : ∀ d, d ∈ E → d.1 = hk → ∃ xs, isStr g w kq xs ∧ isStr g w d.2.1 xs ∧ xs.length < 2 ^ 31)
    (kont : h p ≠ hk → ∀ l7 : Option Value, Z g x 8 145 [l0, some (.ref kq), l2, l3, some (va_rf nxt), l5, some (.int hk), l7] [va_rf nxt] w 0 0) : Z g x 8 99 [l0, some (.ref kq), l2, l3, some (.ref p), l5, some (.int hk), l7] [] w 0 0 := by
  have tp' : (fun a => a ∈ C) p := tp
  have hdE : dat h k v p ∈ E := (List.mem_filter.mp (hp.mem_iff.mp (List.mem_map_of_mem tp))).1
  have go : h p ≠ hk → ∀ l7 : Option Value, Z g x 8 137 [l0, some (.ref kq), l2, l3, some (.ref p), l5, some (.int hk), l7] [] w 0 0 := by
    intro hne l7
    refine Z.aload ok dJ4_getNode_137 rfl (by first | exact isRf.r _ | exact isRf.n | exact isRf.v _ | assumption) ?_
    refine Z.get (ci := 8) (C := RJ26) (T := TJ26) (N := 4) ok (hN _ tp') rfl in_J26 3 (by decide) q1278 (Or.inl rfl) (by rfl) dJ4_getNode_139 ?_
    rw [hx]
    refine Z.dup ok dJ4_getNode_142 (by first | rfl | exact cat_rf _) ?_
    refine Z.astore ok dJ4_getNode_143 (by decide) (by first | exact isRf.r _ | exact isRf.n | exact isRf.v _ | assumption) ?_
    exact kont hne l7
  have found : h p = hk → ∀ l7 : Option Value, Z g x 8 134 [l0, some (.ref kq), l2, l3, some (.ref p), l5, some (.int hk), l7] [] w 0 0 := by
    intro he l7
    refine Z.aload ok dJ4_getNode_134 rfl (by first | exact isRf.r _ | exact isRf.n | exact isRf.v _ | assumption) ?_
    refine Z.aret ok hQ (by first | exact Or.inl ⟨_, rfl⟩ | exact Or.inr ⟨_, rfl⟩) (by first | exact isRf.r _ | exact isRf.n | exact isRf.v _ | assumption) dJ4_getNode_136 ?_
    exact ⟨hF, hM, some p, rfl, fun c hc => by cases hc; exact ⟨_, hdE, he, Or.inl ⟨_, hN p tp⟩⟩, fun hc => (by cases hc)⟩
  refine Z.aload ok dJ4_getNode_99 rfl (by first | exact isRf.r _ | exact isRf.n | exact isRf.v _ | assumption) ?_
  refine Z.get (ci := 8) (C := RJ26) (T := TJ26) (N := 4) ok (hN _ tp') rfl in_J26 0 (by decide) q1267 (Or.inl rfl) (by rfl) dJ4_getNode_101 ?_
  refine Z.iload ok dJ4_getNode_104 rfl ?_
  by_cases he : h p = hk
  · refine Z.icmp_ne (tgt := 137) ok dJ4_getNode_106 (by decide) (fun hc => absurd he hc) (fun _ => ?_)
    obtain ⟨xs, s1, s2, s3⟩ := hq _ hdE he
    obtain ⟨_, _, _, s1', _⟩ := id s1
    refine Z.aload ok dJ4_getNode_109 rfl (by first | exact isRf.r _ | exact isRf.n | exact isRf.v _ | assumption) ?_
    refine Z.get (ci := 8) (C := RJ26) (T := TJ26) (N := 4) ok (hN _ tp') rfl in_J26 1 (by decide) q1271 (Or.inl rfl) (by rfl) dJ4_getNode_111 ?_
    refine Z.dup ok dJ4_getNode_114 (by first | rfl | exact cat_rf _) ?_
    refine Z.astore ok dJ4_getNode_115 (by decide) (by first | exact isRf.r _ | exact isRf.n | exact isRf.v _ | assumption) ?_
    refine Z.aload_n ok dJ4_getNode_117 rfl (by first | exact isRf.r _ | exact isRf.n | exact isRf.v _ | assumption) ?_
    show Z g x 8 118 _ [va_rf (some kq), va_rf (some (k p))] w _ _
    refine Z.acmp_eq (tgt := 134) ok dJ4_getNode_118 (by decide) (fun hc => ?_) (fun hc => ?_)
    · exact found he _
    · refine Z.aload_n ok dJ4_getNode_121 rfl (by first | exact isRf.r _ | exact isRf.n | exact isRf.v _ | assumption) ?_
      refine Z.ifnullR ok dJ4_getNode_122 ?_
      refine Z.aload_n ok dJ4_getNode_125 rfl (by first | exact isRf.r _ | exact isRf.n | exact isRf.v _ | assumption) ?_
      refine Z.aload ok dJ4_getNode_126 rfl (by first | exact isRf.r _ | exact isRf.n | exact isRf.v _ | assumption) ?_
      refine Z.callU (ci := 11) (q := (RJ14, TJ14, 4)) (C := RJ14) (owner := "java/lang/Object") ok (strEq_ct s1 s2 s3) (by first | assumption | exact ws_s | exact hT _ (by assumption) | (rw [ws_n (by assumption)]; assumption)) rfl rfl q679 q681 q680 q709 q691 (Or.inl q705) q34 q692 nk_J29_equals rfl (by decide) (by first | exact Nat.le_of_ble_eq_true rfl | simp [Value.category, cat_rf]) (Nat.le_refl _) (Nat.le_refl _) dJ4_getNode_128 rfl ZX.no (fun v w1 hr => ?_)
      obtain ⟨rfl, rfl⟩ := hr
      refine Z.if_eq (tgt := 137) ok dJ4_getNode_131 (by decide) (fun hc => absurd hc (by decide)) (fun _ => ?_)
      exact found he _
  · refine Z.icmp_ne (tgt := 137) ok dJ4_getNode_106 (by decide) (fun _ => ?_) (fun hc => absurd hc he)
    exact go he _
/-- the walk along a plain bin from its second node on -/
theorem gn_chain {x : Cx} {hk : Int32} {kq i : Nat} {C : List Nat} {h : Nat → Int32} {k v : Nat → Nat} {nx : Nat → Option Nat} {l0 l2 l3 l5 : Option Value} (ok : OK g x RJ4 cJ4_getNode 8 6 (some (.object "java/util/HashMap$Node"))) (hQ : EndQ g x (GnP g w0 m E hk) noX) (hF : FrK g w0 w) (hM : isHM g w m E) (hall : ∀ d, d ∈ E → d.1 = hk → d ∈ E.filter (inBk e i)) (hN : NW w (fun a => a ∈ C) h k v nx) (hseg : seg nx C none) (hp : (C.map (dat h k v)).Perm (E.filter (inBk e i))) (hq : ∀ d, d ∈ E → d.1 = hk → ∃ xs, isStr g w kq xs ∧ isStr g w d.2.1 xs ∧ xs.length < 2 ^ 31) : ∀ (r : List Nat) (p : Nat) (D : List Nat) (l7 : Option Value), C = D ++ p :: r → (∀ a, a ∈ D → h a ≠ hk) → Z g x 8 99 [l0, some (.ref kq), l2, l3, some (.ref p), l5, some (.int hk), l7] [] w 0 0 := by
  intro r
  induction r with
  | nil =>
    intro p D l7 hD hDn
    have tp : (fun a => a ∈ C) p := by show p ∈ C; rw [hD]; simp
    have hx : nx p = none := by
      rw [hD, seg_app] at hseg
      exact hseg.2.1
    exact gn_step (nxt := none) ok hQ hF hM hp hN tp hx hq (fun hne l7 => by
      refine Z.ifnonnullN ok dJ4_getNode_145 ?_
      refine gn_none ok hQ hF hM (fun d hd ed => ?_)
      obtain ⟨a, ha, ea⟩ := List.mem_map.mp (hp.mem_iff.mpr (hall d hd ed))
      rw [hD] at ha
      have e1 : h a = hk := by rw [← ed, ← ea]
      rcases List.mem_append.mp ha with z | z
      · exact hDn a z e1
      · simp at z
        rw [z] at e1
        exact hne e1)
  | cons p2 r ih =>
    intro p D l7 hD hDn
    have tp : (fun a => a ∈ C) p := by show p ∈ C; rw [hD]; simp
    have hx : nx p = some p2 := by
      rw [hD, seg_app] at hseg
      exact hseg.2.1
    exact gn_step (nxt := some p2) ok hQ hF hM hp hN tp hx hq (fun hne l7 => by
      refine Z.ifnonnullR (tgt := 99) ok dJ4_getNode_145 (by decide) ?_
      refine ih p2 (D ++ [p]) l7 (by rw [hD]; simp) (fun a ha => ?_)
      rcases List.mem_append.mp ha with z | z
      · exact hDn a z
      · simp at z
        rw [z]
        exact hne)
theorem gn_first {x : Cx} {hk : Int32} {kq i c : Nat} {r : List Nat} {l0 l2 l4 l5 l7 : Option Value} (ok : OK g x RJ4 cJ4_getNode 8 6 (some (.object "java/util/HashMap$Node"))) (hQ : EndQ g x (GnP g w0 m E hk) noX) (hF : FrK g w0 w) (hM : isHM g w m E) (hall : ∀ d, d ∈ E → d.1 = hk → d ∈ E.filter (inBk e i)) (hB : Bin w (c :: r) (E.filter (inBk e i))) (hq : ∀ d, d ∈ E → d.1 = hk → ∃ xs, isStr g w kq xs ∧ isStr g w d.2.1 xs ∧ xs.length < 2 ^ 31) : Z g x 8 36 [l0, some (.ref kq), l2, some (.ref c), l4, l5, some (.int hk), l7] [] w 0 0 := by
  have fin : ∀ (d : Dt) (l4 l7 : Option Value), d ∈ E → d.1 = hk → isNdV w c d → Z g x 8 69 [l0, some (.ref kq), l2, some (.ref c), l4, l5, some (.int hk), l7] [] w 0 0 := by
    intro d l4 l7 hd ed hn
    refine Z.aload_n ok dJ4_getNode_69 rfl (by first | exact isRf.r _ | exact isRf.n | exact isRf.v _ | assumption) ?_
    refine Z.aret ok hQ (by first | exact Or.inl ⟨_, rfl⟩ | exact Or.inr ⟨_, rfl⟩) (by first | exact isRf.r _ | exact isRf.n | exact isRf.v _ | assumption) dJ4_getNode_70 ?_
    exact ⟨hF, hM, some c, rfl, fun c' hc => by cases hc; exact ⟨d, hd, ed, hn⟩, fun hc => (by cases hc)⟩
  have mt : ∀ (d : Dt) (l4 : Option Value), d ∈ E → d.1 = hk → isNdV w c d → Z g x 8 53 [l0, some (.ref kq), l2, some (.ref c), l4, l5, some (.int hk), some (.ref d.2.1)] [va_rf (some kq), va_rf (some d.2.1)] w 0 0 := by
    intro d l4 hd ed hn
    obtain ⟨xs, s1, s2, s3⟩ := hq d hd ed
    obtain ⟨_, _, _, s1', _⟩ := id s1
    refine Z.acmp_eq (tgt := 69) ok dJ4_getNode_53 (by decide) (fun hc => ?_) (fun hc => ?_)
    · exact fin d _ _ hd ed hn
    · refine Z.aload_n ok dJ4_getNode_56 rfl (by first | exact isRf.r _ | exact isRf.n | exact isRf.v _ | assumption) ?_
      refine Z.ifnullR ok dJ4_getNode_57 ?_
      refine Z.aload_n ok dJ4_getNode_60 rfl (by first | exact isRf.r _ | exact isRf.n | exact isRf.v _ | assumption) ?_
      refine Z.aload ok dJ4_getNode_61 rfl (by first | exact isRf.r _ | exact isRf.n | exact isRf.v _ | assumption) ?_
      refine Z.callU (ci := 11) (q := (RJ14, TJ14, 4)) (C := RJ14) (owner := "java/lang/Object") ok (strEq_ct s1 s2 s3) (by first | assumption | exact ws_s | exact hT _ (by assumption) | (rw [ws_n (by assumption)]; assumption)) rfl rfl q679 q681 q680 q709 q691 (Or.inl q705) q34 q692 nk_J29_equals rfl (by decide) (by first | exact Nat.le_of_ble_eq_true rfl | simp [Value.category, cat_rf]) (Nat.le_refl _) (Nat.le_refl _) dJ4_getNode_63 rfl ZX.no (fun v w1 hr => ?_)
      obtain ⟨rfl, rfl⟩ := hr
      refine Z.if_eq (tgt := 71) ok dJ4_getNode_66 (by decide) (fun hc => absurd hc (by decide)) (fun _ => ?_)
      exact fin d _ _ hd ed hn
  rcases id hB with ⟨h, k, v, nx, hN, hseg, hnd, hp⟩ | ⟨h, k, v, nx, P, L, R, pv, rd, root, lo, hi, hT, hseg, hsep, hnd, hp, H⟩
  · have tc : (fun a => a ∈ c :: r) c := by simp
    have hdE : dat h k v c ∈ E := (List.mem_filter.mp (hp.mem_iff.mp (List.mem_map_of_mem (by simp)))).1
    refine Z.aload_n ok dJ4_getNode_36 rfl (by first | exact isRf.r _ | exact isRf.n | exact isRf.v _ | assumption) ?_
    refine Z.get (ci := 8) (C := RJ26) (T := TJ26) (N := 4) ok (hN _ tc) rfl in_J26 0 (by decide) q1267 (Or.inl rfl) (by rfl) dJ4_getNode_37 ?_
    refine Z.iload ok dJ4_getNode_40 rfl ?_
    by_cases he : h c = hk
    · refine Z.icmp_ne (tgt := 71) ok dJ4_getNode_42 (by decide) (fun hc => absurd he hc) (fun _ => ?_)
      refine Z.aload_n ok dJ4_getNode_45 rfl (by first | exact isRf.r _ | exact isRf.n | exact isRf.v _ | assumption) ?_
      refine Z.get (ci := 8) (C := RJ26) (T := TJ26) (N := 4) ok (hN _ tc) rfl in_J26 1 (by decide) q1271 (Or.inl rfl) (by rfl) dJ4_getNode_46 ?_
      refine Z.dup ok dJ4_getNode_49 (by first | rfl | exact cat_rf _) ?_
      refine Z.astore ok dJ4_getNode_50 (by decide) (by first | exact isRf.r _ | exact isRf.n | exact isRf.v _ | assumption) ?_
      refine Z.aload_n ok dJ4_getNode_52 rfl (by first | exact isRf.r _ | exact isRf.n | exact isRf.v _ | assumption) ?_
      exact mt (dat h k v c) _ hdE he (Or.inl ⟨_, hN c tc⟩)
    · refine Z.icmp_ne (tgt := 71) ok dJ4_getNode_42 (by decide) (fun _ => ?_) (fun hc => absurd hc he)
      refine Z.aload_n ok dJ4_getNode_71 rfl (by first | exact isRf.r _ | exact isRf.n | exact isRf.v _ | assumption) ?_
      refine Z.get (ci := 8) (C := RJ26) (T := TJ26) (N := 4) ok (hN _ tc) rfl in_J26 3 (by decide) q1278 (Or.inl rfl) (by rfl) dJ4_getNode_72 ?_
      rw [hseg.1]
      refine Z.dup ok dJ4_getNode_75 (by first | rfl | exact cat_rf _) ?_
      refine Z.astore ok dJ4_getNode_76 (by decide) (by first | exact isRf.r _ | exact isRf.n | exact isRf.v _ | assumption) ?_
      cases r with
      | nil =>
        refine Z.ifnullN (tgt := 148) ok dJ4_getNode_78 (by decide) ?_
        refine gn_none ok hQ hF hM (fun d hd ed => ?_)
        obtain ⟨a, ha, ea⟩ := List.mem_map.mp (hp.mem_iff.mpr (hall d hd ed))
        simp at ha
        rw [ha] at ea
        exact he (by rw [← ed, ← ea])
      | cons p r =>
        refine Z.ifnullR ok dJ4_getNode_78 ?_
        refine Z.aload_n ok dJ4_getNode_81 rfl (by first | exact isRf.r _ | exact isRf.n | exact isRf.v _ | assumption) ?_
        refine Z.instNo (ci := 8) (q := (RJ26, TJ26, 4)) ok (hN _ tc) rfl (by decide +kernel) q710 dJ4_getNode_82 ?_
        refine Z.if_eq (tgt := 99) ok dJ4_getNode_85 (by decide) (fun _ => ?_) (fun hc => absurd rfl hc)
        exact gn_chain ok hQ hF hM hall hN hseg hp hq r p [c] _ rfl (fun a ha => by simp at ha; rw [ha]; exact he)
  · have tc : (fun a => a ∈ c :: r) c := by simp
    have hdE : ∀ a, a ∈ c :: r → dat h k v a ∈ E := fun a ha => (List.mem_filter.mp (hp.mem_iff.mp (List.mem_map_of_mem ha))).1
    refine Z.aload_n ok dJ4_getNode_36 rfl (by first | exact isRf.r _ | exact isRf.n | exact isRf.v _ | assumption) ?_
    refine Z.get (ci := 9) (C := RJ28) (T := TJ28) (N := 11) ok (hT _ tc) rfl in_J28 2 (by decide) q1267 (Or.inl rfl) (by rfl) dJ4_getNode_37 ?_
    refine Z.iload ok dJ4_getNode_40 rfl ?_
    by_cases he : h c = hk
    · refine Z.icmp_ne (tgt := 71) ok dJ4_getNode_42 (by decide) (fun hc => absurd he hc) (fun _ => ?_)
      refine Z.aload_n ok dJ4_getNode_45 rfl (by first | exact isRf.r _ | exact isRf.n | exact isRf.v _ | assumption) ?_
      refine Z.get (ci := 9) (C := RJ28) (T := TJ28) (N := 11) ok (hT _ tc) rfl in_J28 3 (by decide) q1271 (Or.inl rfl) (by rfl) dJ4_getNode_46 ?_
      refine Z.dup ok dJ4_getNode_49 (by first | rfl | exact cat_rf _) ?_
      refine Z.astore ok dJ4_getNode_50 (by decide) (by first | exact isRf.r _ | exact isRf.n | exact isRf.v _ | assumption) ?_
      refine Z.aload_n ok dJ4_getNode_52 rfl (by first | exact isRf.r _ | exact isRf.n | exact isRf.v _ | assumption) ?_
      exact mt (dat h k v c) _ (hdE c tc) he (Or.inr ⟨_, _, _, _, _, _, hT c tc⟩)
    · refine Z.icmp_ne (tgt := 71) ok dJ4_getNode_42 (by decide) (fun _ => ?_) (fun hc => absurd hc he)
      refine Z.aload_n ok dJ4_getNode_71 rfl (by first | exact isRf.r _ | exact isRf.n | exact isRf.v _ | assumption) ?_
      refine Z.get (ci := 9) (C := RJ28) (T := TJ28) (N := 11) ok (hT _ tc) rfl in_J28 5 (by decide) q1278 (Or.inl rfl) (by rfl) dJ4_getNode_72 ?_
      rw [hseg.1]
      refine Z.dup ok dJ4_getNode_75 (by first | rfl | exact cat_rf _) ?_
      refine Z.astore ok dJ4_getNode_76 (by decide) (by first | exact isRf.r _ | exact isRf.n | exact isRf.v _ | assumption) ?_
      cases r with
      | nil =>
        refine Z.ifnullN (tgt := 148) ok dJ4_getNode_78 (by decide) ?_
        refine gn_none ok hQ hF hM (fun d hd ed => ?_)
        obtain ⟨a, ha, ea⟩ := List.mem_map.mp (hp.mem_iff.mpr (hall d hd ed))
        simp at ha
        rw [ha] at ea
        exact he (by rw [← ed, ← ea])
      | cons p r =>
        refine Z.ifnullR ok dJ4_getNode_78 ?_
        refine Z.aload_n ok dJ4_getNode_81 rfl (by first | exact isRf.r _ | exact isRf.n | exact isRf.v _ | assumption) ?_
        refine Z.instS (ci := 9) (q := (RJ28, TJ28, 11)) ok (hT _ tc) rfl rfl q710 dJ4_getNode_82 ?_
        refine Z.if_eq (tgt := 99) ok dJ4_getNode_85 (by decide) (fun hc => absurd hc (by decide)) (fun _ => ?_)
        refine Z.aload_n ok dJ4_getNode_88 rfl (by first | exact isRf.r _ | exact isRf.n | exact isRf.v _ | assumption) ?_
        refine Z.castS (ci := 9) (q := (RJ28, TJ28, 11)) ok (hT _ tc) rfl rfl q710 dJ4_getNode_89 ?_
        refine Z.iload ok dJ4_getNode_92 rfl ?_
        refine Z.aload_n ok dJ4_getNode_94 rfl (by first | exact isRf.r _ | exact isRf.n | exact isRf.v _ | assumption) ?_
        refine Z.callV (ci := 9) (q := (RJ28, TJ28, 11)) (C := RJ28) ok (getTree_ct hT (fun a ha => ha) H tc (fun a ha ea => hq _ (hdE a ha) ea)) (hT _ tc) rfl rfl q711 q712 (Or.inl q713) q54 q714 nk_J28_getTreeNode rfl (by decide) (by first | exact Nat.le_of_ble_eq_true rfl | simp [Value.category, cat_rf]) (Nat.le_refl _) (Nat.le_refl _) dJ4_getNode_95 rfl ZX.no (fun v w1 hr => ?_)
        obtain ⟨rfl, o, rfl, r1, r2⟩ := hr
        refine Z.aret ok hQ (by first | exact Or.inl ⟨_, rfl⟩ | exact Or.inr ⟨_, rfl⟩) (by first | exact isRf.r _ | exact isRf.n | exact isRf.v _ | assumption) dJ4_getNode_98 ?_
        refine ⟨hF, hM, o, rfl, fun a ha => ?_, fun ho d hd ed => ?_⟩
        · obtain ⟨q1, q2⟩ := r1 a ha
          exact ⟨_, hdE a q1, q2, Or.inr ⟨_, _, _, _, _, _, hT a q1⟩⟩
        · obtain ⟨a, ha, ea⟩ := List.mem_map.mp (hp.mem_iff.mpr (hall d hd ed))
          exact r2 ho a ha (by rw [← ed, ← ea])
theorem getNode_ct {kq : Nat} {xs : List Nat} (hM : isHM g w m E) (hS : isStr g w kq xs) (hs : okS xs) (hq : ∀ d, d ∈ E → d.1 = hkey xs → isStr g w d.2.1 xs) (hlen : E.length < 2 ^ 20) : Ct g yJ4_getNode cJ4_getNode 8 (some (.object "java/util/HashMap$Node")) 6 0 0 [.ref m, .ref kq] w (GnP g w m E (hkey xs)) noX := by
  refine Ct.of RJ4 "getNode" ⟨rfl, rfl⟩ (by decide +kernel) (by simp [Value.category] <;> exact cat_rf _) (Nat.le_of_ble_eq_true rfl) (fun x ok hQ hN => ?_)
  show Z g x 8 0 [some (.ref m), some (.ref kq), none, none, none, none, none, none] [] w 0 0
  obtain ⟨hinjE, mc, lf, hM0⟩ := id hM
  rcases hM0 with ⟨rfl, hm⟩ | ⟨T, e, f, he4, hcap, hT, hm, hthr⟩
  · refine Z.aload_n ok dJ4_getNode_0 rfl (by first | exact isRf.r _ | exact isRf.n | exact isRf.v _ | assumption) ?_
    refine Z.get (ci := 7) (C := RJ4) (T := TJ4) (N := 8) ok (by first | assumption | exact ws_s | exact hT _ (by assumption) | (rw [ws_n (by assumption)]; assumption)) rfl in_J4 2 (by decide) q99 (Or.inl rfl) (by rfl) dJ4_getNode_1 ?_
    refine Z.dup ok dJ4_getNode_4 (by first | rfl | exact cat_rf _) ?_
    refine Z.astore_n (i := 2) ok dJ4_getNode_5 rfl (by decide) (by first | exact isRf.r _ | exact isRf.n | exact isRf.v _ | assumption) ?_
    refine Z.ifnullN (tgt := 148) ok dJ4_getNode_6 (by decide) ?_
    exact gn_none ok hQ FrK.rf hM (fun d hd => by cases hd)
  · have he := cap_lt hcap hlen
    have t1 := two_lt (e := e) (by omega)
    have t0 := Nat.two_pow_pos e
    refine Z.aload_n ok dJ4_getNode_0 rfl (by first | exact isRf.r _ | exact isRf.n | exact isRf.v _ | assumption) ?_
    refine Z.get (ci := 7) (C := RJ4) (T := TJ4) (N := 8) ok (by first | assumption | exact ws_s | exact hT _ (by assumption) | (rw [ws_n (by assumption)]; assumption)) rfl in_J4 2 (by decide) q99 (Or.inl rfl) (by rfl) dJ4_getNode_1 ?_
    refine Z.dup ok dJ4_getNode_4 (by first | rfl | exact cat_rf _) ?_
    refine Z.astore_n (i := 2) ok dJ4_getNode_5 rfl (by decide) (by first | exact isRf.r _ | exact isRf.n | exact isRf.v _ | assumption) ?_
    refine Z.ifnullR ok dJ4_getNode_6 ?_
    refine Z.aload_n ok dJ4_getNode_9 rfl (by first | exact isRf.r _ | exact isRf.n | exact isRf.v _ | assumption) ?_
    refine Z.alen (k0 := 5) ok hT.1 rfl dJ4_getNode_10 ?_
    refine Z.dup ok dJ4_getNode_11 (by first | rfl | exact cat_rf _) ?_
    refine Z.istore ok dJ4_getNode_12 (by decide) ?_
    refine Z.if_le (tgt := 148) ok dJ4_getNode_14 (by decide) (fun hc => absurd hc (nI_nle (by omega) (by omega))) (fun _ => ?_)
    refine Z.aload_n ok dJ4_getNode_17 rfl (by first | exact isRf.r _ | exact isRf.n | exact isRf.v _ | assumption) ?_
    refine Z.iload ok dJ4_getNode_18 rfl ?_
    refine Z.iconst_1 ok dJ4_getNode_20 ?_
    refine Z.isub ok dJ4_getNode_21 ?_
    refine Z.aload_n ok dJ4_getNode_22 rfl (by first | exact isRf.r _ | exact isRf.n | exact isRf.v _ | assumption) ?_
    refine Z.callS ok (hash_ct hS hs) q588 q589 q21 q590 nk_J4_hash rfl (by decide) (by first | exact Nat.le_of_ble_eq_true rfl | simp [Value.category, cat_rf]) (Nat.le_refl _) (Nat.le_refl _) dJ4_getNode_23 rfl ZX.no (fun v w1 hr => ?_)
    obtain ⟨rfl, hF1⟩ := hr
    have hM1 : isHM g w1 m E := hM.keep (fun b y t hb ht => hF1.1 b y t hb (by omega))
    have hT1 := hF1.1 _ _ _ hT.1 (by decide)
    obtain ⟨C, c1, c2⟩ := hT.2 (ix e (hkey xs)) (ix_lt _ _)
    have c3 : Bin w1 C (E.filter (inBk e (ix e (hkey xs)))) := c2.keep (fun b hb => by
      obtain ⟨d, -, hn⟩ := c2.nd hb
      rcases hn with ⟨_, hn⟩ | ⟨_, _, _, hn⟩ <;> rw [hn] <;> exact hF1.1 _ _ _ hn (by decide))
    have hall : ∀ d, d ∈ E → d.1 = hkey xs → d ∈ E.filter (inBk e (ix e (hkey xs))) := fun d hd ed => List.mem_filter.mpr ⟨hd, by unfold inBk; rw [ed]; simp⟩
    refine Z.dup ok dJ4_getNode_26 (by first | rfl | exact cat_rf _) ?_
    refine Z.istore ok dJ4_getNode_27 (by decide) ?_
    refine Z.iand ok dJ4_getNode_29 ?_
    rw [ix_mask (by omega)]
    refine Z.nald ok hT1 (vp_in_nI (ix_lt _ _) (by omega)) dJ4_getNode_30 ?_
    rw [nI_clamp (Nat.lt_trans (ix_lt _ _) (by omega)), c1]
    refine Z.dup ok dJ4_getNode_31 (by first | rfl | exact cat_rf _) ?_
    refine Z.astore_n (i := 3) ok dJ4_getNode_32 rfl (by decide) (by first | exact isRf.r _ | exact isRf.n | exact isRf.v _ | assumption) ?_
    cases C with
    | nil =>
      refine Z.ifnullN (tgt := 148) ok dJ4_getNode_33 (by decide) ?_
      refine gn_none ok hQ hF1 hM1 (fun d hd ed => ?_)
      have := hall d hd ed
      rw [List.eq_nil_of_length_eq_zero c2.len.symm] at this
      cases this
    | cons c r =>
      refine Z.ifnullR ok dJ4_getNode_33 ?_
      exact gn_first ok hQ hF1 hM1 hall c3 (fun d hd ed => ⟨xs, hF1.2 _ _ hS, hF1.2 _ _ (hq d hd ed), hs.2.1⟩)
def GtP (g : Gx) (w : Wd) (m : Nat) (E : List Dt) (hk : Int32) : Option Value → Wd → Prop := fun r w' => FrK g w w' ∧ isHM g w' m E ∧ ∃ o, r = some (va_rf o) ∧ (∀ c, o = some c → ∃ d, d ∈ E ∧ d.1 = hk ∧ d.2.2 = c) ∧ (o = none → ∀ d, d ∈ E → d.1 ≠ hk)
theorem isHM.obj (hM : isHM g w m E) : ∃ fs, w m = some (ob 7 fs, 4) := by
  obtain ⟨-, _, _, h⟩ := hM
  rcases h with ⟨-, h⟩ | ⟨_, _, _, -, -, -, h, -⟩ <;> exact ⟨_, h⟩
theorem get_ct {kq : Nat} {xs : List Nat} (hM : isHM g w m E) (hS : isStr g w kq xs) (hs : okS xs) (hq : ∀ d, d ∈ E → d.1 = hkey xs → isStr g w d.2.1 xs) (hlen : E.length < 2 ^ 20) : Ct g yJ4_get cJ4_get 3 (some (.object "java/lang/Object")) 7 0 0 [.ref m, .ref kq] w (GtP g w m E (hkey xs)) noX := by
  refine Ct.of RJ4 "get" ⟨rfl, rfl⟩ (by decide +kernel) (by simp [Value.category] <;> exact cat_rf _) (Nat.le_of_ble_eq_true rfl) (fun x ok hQ hN => ?_)
  show Z g x 3 0 [some (.ref m), some (.ref kq), none] [] w 0 0
  obtain ⟨fs, hm⟩ := hM.obj
  refine Z.aload_n ok dJ4_get_0 rfl (by first | exact isRf.r _ | exact isRf.n | exact isRf.v _ | assumption) ?_
  refine Z.aload_n ok dJ4_get_1 rfl (by first | exact isRf.r _ | exact isRf.n | exact isRf.v _ | assumption) ?_
  refine Z.callV (ci := 7) (q := (RJ4, TJ4, 8)) (C := RJ4) ok (getNode_ct hM hS hs hq hlen) hm rfl rfl q584 q585 (Or.inl q586) q21 q587 nk_J4_getNode rfl (by decide) (by first | exact Nat.le_of_ble_eq_true rfl | simp [Value.category, cat_rf]) (Nat.le_refl _) (Nat.le_refl _) dJ4_get_2 rfl ZX.no (fun v w1 hr => ?_)
  obtain ⟨hF, hM1, o, rfl, r1, r2⟩ := hr
  refine Z.dup ok dJ4_get_5 (by first | rfl | exact cat_rf _) ?_
  refine Z.astore_n (i := 2) ok dJ4_get_6 rfl (by decide) (by first | exact isRf.r _ | exact isRf.n | exact isRf.v _ | assumption) ?_
  cases o with
  | none =>
    refine Z.ifnonnullN ok dJ4_get_7 ?_
    refine Z.null ok dJ4_get_10 ?_
    refine Z.goto (tgt := 18) ok dJ4_get_11 (by decide) ?_
    refine Z.aret ok hQ (by first | exact Or.inl ⟨_, rfl⟩ | exact Or.inr ⟨_, rfl⟩) (by first | exact isRf.r _ | exact isRf.n | exact isRf.v _ | assumption) dJ4_get_18 ?_
    exact ⟨hF, hM1, none, rfl, fun c hc => (by cases hc), fun _ => r2 rfl⟩
  | some c =>
    refine Z.ifnonnullR (tgt := 14) ok dJ4_get_7 (by decide) ?_
    obtain ⟨d, hd, ed, hn⟩ := r1 c rfl
    rcases hn with ⟨_, hn⟩ | ⟨_, _, _, _, _, _, hn⟩
    · refine Z.aload_n ok dJ4_get_14 rfl (by first | exact isRf.r _ | exact isRf.n | exact isRf.v _ | assumption) ?_
      refine Z.get (ci := 8) (C := RJ26) (T := TJ26) (N := 4) ok hn rfl in_J26 2 (by decide) q1273 (Or.inl rfl) (by rfl) dJ4_get_15 ?_
      refine Z.aret ok hQ (by first | exact Or.inl ⟨_, rfl⟩ | exact Or.inr ⟨_, rfl⟩) (by first | exact isRf.r _ | exact isRf.n | exact isRf.v _ | assumption) dJ4_get_18 ?_
      exact ⟨hF, hM1, some d.2.2, rfl, fun c hc => by cases hc; exact ⟨d, hd, ed, rfl⟩, fun hc => (by cases hc)⟩
    · refine Z.aload_n ok dJ4_get_14 rfl (by first | exact isRf.r _ | exact isRf.n | exact isRf.v _ | assumption) ?_
      refine Z.get (ci := 9) (C := RJ28) (T := TJ28) (N := 11) ok hn rfl in_J28 4 (by decide) q1273 (Or.inl rfl) (by rfl) dJ4_get_15 ?_
      refine Z.aret ok hQ (by first | exact Or.inl ⟨_, rfl⟩ | exact Or.inr ⟨_, rfl⟩) (by first | exact isRf.r _ | exact isRf.n | exact isRf.v _ | assumption) dJ4_get_18 ?_
      exact ⟨hF, hM1, some d.2.2, rfl, fun c hc => by cases hc; exact ⟨d, hd, ed, rfl⟩, fun hc => (by cases hc)⟩
theorem contains_ct {kq : Nat} {xs : List Nat} (hM : isHM g w m E) (hS : isStr g w kq xs) (hs : okS xs) (hq : ∀ d, d ∈ E → d.1 = hkey xs → isStr g w d.2.1 xs) (hlen : E.length < 2 ^ 20) : Ct g yJ4_containsKey cJ4_containsKey 2 (some .boolean) 7 0 0 [.ref m, .ref kq] w (fun r w' => FrK g w w' ∧ isHM g w' m E ∧ ((r = rI 1 ∧ ∃ d, d ∈ E ∧ d.1 = hkey xs) ∨ (r = rI 0 ∧ ∀ d, d ∈ E → d.1 ≠ hkey xs))) noX := by
  refine Ct.of RJ4 "containsKey" ⟨rfl, rfl⟩ (by decide +kernel) (by simp [Value.category] <;> exact cat_rf _) (Nat.le_of_ble_eq_true rfl) (fun x ok hQ hN => ?_)
  show Z g x 2 0 [some (.ref m), some (.ref kq)] [] w 0 0
  obtain ⟨fs, hm⟩ := hM.obj
  refine Z.aload_n ok dJ4_containsKey_0 rfl (by first | exact isRf.r _ | exact isRf.n | exact isRf.v _ | assumption) ?_
  refine Z.aload_n ok dJ4_containsKey_1 rfl (by first | exact isRf.r _ | exact isRf.n | exact isRf.v _ | assumption) ?_
  refine Z.callV (ci := 7) (q := (RJ4, TJ4, 8)) (C := RJ4) ok (getNode_ct hM hS hs hq hlen) hm rfl rfl q584 q585 (Or.inl q586) q21 q587 nk_J4_getNode rfl (by decide) (by first | exact Nat.le_of_ble_eq_true rfl | simp [Value.category, cat_rf]) (Nat.le_refl _) (Nat.le_refl _) dJ4_containsKey_2 rfl ZX.no (fun v w1 hr => ?_)
  obtain ⟨hF, hM1, o, rfl, r1, r2⟩ := hr
  cases o with
  | none =>
    refine Z.ifnullN (tgt := 12) ok dJ4_containsKey_5 (by decide) ?_
    refine Z.iconst_0 ok dJ4_containsKey_12 ?_
    refine Z.iret ok hQ rfl dJ4_containsKey_13 ?_
    exact ⟨hF, hM1, Or.inr ⟨rfl, r2 rfl⟩⟩
  | some c =>
    refine Z.ifnullR ok dJ4_containsKey_5 ?_
    obtain ⟨d, hd, ed, -⟩ := r1 c rfl
    refine Z.iconst_1 ok dJ4_containsKey_8 ?_
    refine Z.goto (tgt := 13) ok dJ4_containsKey_9 (by decide) ?_
    refine Z.iret ok hQ rfl dJ4_containsKey_13 ?_
    exact ⟨hF, hM1, Or.inl ⟨rfl, d, hd, ed⟩⟩
end GET
