/-! ===== BINS: treeifyBin and untreeify, their contracts ===== -/
theorem nodup_map_inj {α : Type} {f : Nat → α} : ∀ {C : List Nat}, (C.map f).Nodup → ∀ a b, a ∈ C → b ∈ C → f a = f b → a = b
  | [], _, a, _, ha, _, _ => by cases ha
  | c :: C, h, a, b, ha, hb, e => by
    rw [List.map_cons, List.nodup_cons] at h
    rcases List.mem_cons.mp ha with rfl | ha'
    · rcases List.mem_cons.mp hb with rfl | hb'
      · rfl
      · exact absurd (by rw [e]; exact List.mem_map_of_mem hb') h.1
    · rcases List.mem_cons.mp hb with rfl | hb'
      · exact absurd (by rw [← e]; exact List.mem_map_of_mem ha') h.1
      · exact nodup_map_inj h.2 a b ha' hb' e
theorem dat_inj {h : Nat → Int32} {k v : Nat → Nat} {C : List Nat} {ds : List Dt} (hp : (C.map (dat h k v)).Perm ds) (hn : (ds.map (fun d => d.1)).Nodup) : ∀ a b, a ∈ C → b ∈ C → h a = h b → a = b := by
  have h1 : ((C.map (dat h k v)).map (fun d => d.1)).Nodup := (hp.map _).nodup_iff.mpr hn
  rw [List.map_map] at h1
  exact nodup_map_inj h1
theorem dat_all {h : Nat → Int32} {k v : Nat → Nat} {C : List Nat} {ds : List Dt} {Q : Dt → Prop} (hp : (C.map (dat h k v)).Perm ds) (hq : ∀ d, d ∈ ds → Q d) : ∀ a, a ∈ C → Q (dat h k v a) := fun _ ha => hq _ (hp.mem_iff.mp (List.mem_map_of_mem ha))
section BINS2
variable {g : Gx} {w : Wd}
theorem tfbin_ct {m T n i tm : Nat} {hh : Int32} {fsm : List Value} {f : Nat → Option Nat} {B : List Nat} {ds : List Dt} (hm : w m = some (ob 7 fsm, tm)) (hTab : w T = some (eN g n f, 5)) (h64 : 64 ≤ n) (hn : n < 2 ^ 30) (hin : i < n) (hix : (nI n - 1) &&& hh = nI i) (hf : f i = hd B none) (hne : B ≠ []) (hP : PBin w B ds) (hixs : ∀ d, d ∈ ds → (nI n - 1) &&& d.1 = nI i) (hinj : (ds.map (fun d => d.1)).Nodup) : Ct g yJ4_treeifyBin cJ4_treeifyBin 9 none 5 (B.length) (11*B.length) [.ref m, .ref T, .int hh] w (fun o w' => o = none ∧ ∃ C f', TBin w' C ds ∧ C ≠ [] ∧ w' T = some (eN g n f', 5) ∧ (∀ j, j ≠ i → f' j = f j) ∧ f' i = hd C none ∧ (∀ b, b ≠ T → w b ≠ none → w' b = w b)) noX := by
  refine Ct.of RJ4 "treeifyBin" ⟨rfl, rfl⟩ (by decide +kernel) (by simp [Value.category] <;> exact cat_rf _) (Nat.le_of_ble_eq_true rfl) (fun x ok hQ hN => ?_)
  show Z g x 9 0 [some (.ref m), some (.ref T), some (.int hh), none, none, none, none, none, none] [] w (B.length) (11*B.length)
  obtain ⟨h, k, v, nx, hN, hseg, hnd, hperm⟩ := hP
  obtain ⟨e, r, rfl⟩ : ∃ e r, B = e :: r := by
    cases B with
    | nil => exact absurd rfl hne
    | cons e r => exact ⟨e, r, rfl⟩
  refine Z.aload_n ok dJ4_treeifyBin_0 rfl (by first | exact isRf.r _ | exact isRf.n | exact isRf.v _ | assumption) ?_
  refine Z.ifnullR ok dJ4_treeifyBin_1 ?_
  refine Z.aload_n ok dJ4_treeifyBin_4 rfl (by first | exact isRf.r _ | exact isRf.n | exact isRf.v _ | assumption) ?_
  refine Z.alen (k0 := 5) ok hTab rfl dJ4_treeifyBin_5 ?_
  refine Z.dup ok dJ4_treeifyBin_6 (by first | rfl | exact cat_rf _) ?_
  refine Z.istore_n (i := 3) ok dJ4_treeifyBin_7 rfl (by decide) ?_
  refine Z.bipush (v := 64) ok dJ4_treeifyBin_8 (by decide) ?_
  refine Z.icmp_ge (tgt := 21) ok dJ4_treeifyBin_10 (by decide) (fun _ => ?_) (fun hc => absurd (show nI 64 ≤ nI n from nI_le h64 (by omega)) hc)
  refine Z.aload_n ok dJ4_treeifyBin_21 rfl (by first | exact isRf.r _ | exact isRf.n | exact isRf.v _ | assumption) ?_
  refine Z.iload_n ok dJ4_treeifyBin_22 rfl ?_
  refine Z.iconst_1 ok dJ4_treeifyBin_23 ?_
  refine Z.isub ok dJ4_treeifyBin_24 ?_
  refine Z.iload_n ok dJ4_treeifyBin_25 rfl ?_
  refine Z.iand ok dJ4_treeifyBin_26 ?_
  rw [hix]
  refine Z.dup ok dJ4_treeifyBin_27 (by first | rfl | exact cat_rf _) ?_
  refine Z.istore ok dJ4_treeifyBin_28 (by decide) ?_
  refine Z.nald ok hTab (vp_in_nI hin (by omega)) dJ4_treeifyBin_30 ?_
  rw [nI_clamp (by omega), hf]
  refine Z.dup ok dJ4_treeifyBin_31 (by first | rfl | exact cat_rf _) ?_
  refine Z.astore ok dJ4_treeifyBin_32 (by decide) (by first | exact isRf.r _ | exact isRf.n | exact isRf.v _ | assumption) ?_
  refine Z.ifnullR ok dJ4_treeifyBin_34 ?_
  refine Z.null ok dJ4_treeifyBin_37 ?_
  refine Z.astore ok dJ4_treeifyBin_38 (by decide) (by first | exact isRf.r _ | exact isRf.n | exact isRf.v _ | assumption) ?_
  refine Z.null ok dJ4_treeifyBin_40 ?_
  refine Z.astore ok dJ4_treeifyBin_41 (by decide) (by first | exact isRf.r _ | exact isRf.n | exact isRf.v _ | assumption) ?_
  refine Z.room (kc' := 0 + (r.length + 1)) (ks' := 0 + 11 * (r.length + 1)) (by simp) (by simp) ?_
  refine tfb_loop ok hm hN hseg ?_ r e [] [] w none rfl ⟨fun _ => 0, fun _ => 0, fun _ => 0, fun _ => none, fun _ => none, fun _ => none, fun _ => none, fun _ => none, fun _ => 0, FrA.rf, fun a ha => (by cases ha), trivial, trivial, List.nodup_nil, fun a ha => (by cases ha), rfl⟩
  intro w1 C l7 l8 hS
  obtain ⟨h', k', v', nx', P, L, R, pv, rd, hA, hT, hs, hsp, hnd', hnew, hmap⟩ := hS
  have hperm' : (C.map (dat h' k' v')).Perm ds := by rw [hmap]; exact hperm
  have hCne : C ≠ [] := fun e => by rw [e] at hmap; cases hmap
  obtain ⟨c, rc, rfl⟩ : ∃ c rc, C = c :: rc := by
    cases C with
    | nil => exact absurd rfl hCne
    | cons e r => exact ⟨e, r, rfl⟩
  have hTC : T ∉ c :: rc := fun h => by rw [hnew T h] at hTab; cases hTab
  have hcc : c ∈ c :: rc := by simp
  have hTab1 := hA _ _ hTab
  show Z g x 9 93 [some (.ref m), some (.ref T), some (.int hh), some (.int (nI n)), some (.int (nI i)), some .null, some (.ref c), l7, l8] [] w1 0 0
  refine Z.aload_n ok dJ4_treeifyBin_93 rfl (by first | exact isRf.r _ | exact isRf.n | exact isRf.v _ | assumption) ?_
  refine Z.iload ok dJ4_treeifyBin_94 rfl ?_
  refine Z.aload ok dJ4_treeifyBin_96 rfl (by first | exact isRf.r _ | exact isRf.n | exact isRf.v _ | assumption) ?_
  refine Z.dup_x2 ok dJ4_treeifyBin_98 (by first | rfl | exact cat_rf _) (by first | rfl | exact cat_rf _) (by first | rfl | exact cat_rf _) ?_
  refine Z.nast ok hTab1 (by decide) (hT c hcc) rfl (Or.inr (q1658)) (vp_in_nI hin (by omega)) dJ4_treeifyBin_99 ?_
  rw [nI_clamp (by omega)]
  refine Z.ifnullR ok dJ4_treeifyBin_100 ?_
  have hT1 : TW (wset w1 T (eN g n (va_up f i (some c))) 5) (fun a => a ∈ c :: rc) h' k' v' nx' P L R pv rd := fun a ha => (ws_n (fun e => hTC (by rw [← e]; exact ha))).trans (hT a ha)
  refine Z.aload ok dJ4_treeifyBin_103 rfl (by first | exact isRf.r _ | exact isRf.n | exact isRf.v _ | assumption) ?_
  refine Z.aload_n ok dJ4_treeifyBin_105 rfl (by first | exact isRf.r _ | exact isRf.n | exact isRf.v _ | assumption) ?_
  refine Z.callV (ci := 9) (q := (RJ28, TJ28, 11)) (C := RJ28) ok (treeify_ct (y := c) (r := rc) hT1 (fun a ha => ha) ws_s hTC hn hin (dat_all (Q := fun d => (nI n - 1) &&& d.1 = nI i) hperm' hixs) (if_pos rfl) hs hsp hnd' (dat_inj hperm' hinj)) (hT1 c hcc) rfl rfl q1360 q1290 (Or.inl q1291) q54 q1292 nk_J28_treeify rfl (by decide) (by first | exact Nat.le_of_ble_eq_true rfl | simp [Value.category, cat_rf]) (Nat.le_refl _) (Nat.le_refl _) dJ4_treeifyBin_106 rfl ZX.no (fun v w2 hr => ?_)
  obtain ⟨rfl, B', nx2, P2, L2, R2, pv2, rd2, root, lo, hi, f', p1, p2, p3, p4, p5, p6, p7, p8, p9⟩ := hr
  refine Z.vret ok hQ rfl dJ4_treeifyBin_109 ?_
  refine ⟨rfl, B', f', ⟨h', k', v', nx2, P2, L2, R2, pv2, rd2, root, lo, hi, fun a ha => p2 a (p1.mem_iff.mp ha), p6, p7, p1.nodup_iff.mpr hnd', (p1.map _).trans hperm', p8⟩, fun e => ?_, p3, fun j hj => (p4 j hj).trans (if_neg hj), p5, fun b hb hwb => ?_⟩
  · rw [e] at p1
    exact absurd p1.symm.eq_nil (by simp)
  · have hbC : b ∉ c :: rc := fun h => hwb (hnew b h)
    rw [p9 b (fun h => h.elim hbC hb), ws_n hb]
    cases hw : w b with
    | none => exact absurd hw hwb
    | some y => exact hA b y hw
def UtS (w0 w : Wd) (C : List Nat) (ds : List Dt) : Prop := ∃ h k v nx, FrA w0 w ∧ NW w (fun a => a ∈ C) h k v nx ∧ seg nx C none ∧ C.Nodup ∧ (∀ a, a ∈ C → w0 a = none) ∧ C.map (dat h k v) = ds
theorem utr_step {x : Cx} {w0 w : Wd} {m e tm ke ve : Nat} {he : Int32} {ne : Option Nat} {fsm : List Value} {z1 z2 z4 z5 z6 z7 z8 l0 : Value} {kc ks : Nat} {C : List Nat} {ds : List Dt} {l5 : Option Value} (ok : OK g x RJ28 cJ28_untreeify 6 3 (some (.object "java/util/HashMap$Node"))) (hm : w0 m = some (ob 7 fsm, tm)) (he0 : w0 e = some (ob 9 [z1, z2, .int he, .ref ke, .ref ve, va_rf ne, z4, z5, z6, z7, z8], 5)) (hS : UtS w0 w C ds)
    (kont : ∀ (w' : Wd) (q : Nat), UtS w0 w' (C ++ [q]) (ds ++ [(he, ke, ve)]) → Z g x 6 7 [some l0, some (.ref m), some (va_rf (hd (C ++ [q]) none)), some (va_rf (lst (C ++ [q]) none)), some (va_rf ne), some (.ref q)] [] w' kc ks) : Z g x 6 7 [some l0, some (.ref m), some (va_rf (hd C none)), some (va_rf (lst C none)), some (.ref e), l5] [] w (kc + 1) (ks + 4) := by
  obtain ⟨h', k', v', nx', hA, hN0, hs, hnd, hnew, hmap⟩ := hS
  refine Z.aload ok dJ28_untreeify_7 rfl (by first | exact isRf.r _ | exact isRf.n | exact isRf.v _ | assumption) ?_
  refine Z.ifnullR ok dJ28_untreeify_9 ?_
  refine Z.aload_n ok dJ28_untreeify_12 rfl (by first | exact isRf.r _ | exact isRf.n | exact isRf.v _ | assumption) ?_
  refine Z.aload ok dJ28_untreeify_13 rfl (by first | exact isRf.r _ | exact isRf.n | exact isRf.v _ | assumption) ?_
  refine Z.null ok dJ28_untreeify_15 ?_
  refine Z.callV (kc' := kc) (ks' := ks) (ci := 7) (q := (RJ4, TJ4, 8)) (C := RJ4) ok (replN_ct (m := m) (hA _ _ he0)) (hA _ _ hm) rfl rfl q1255 q1256 (Or.inl q1257) q21 q1258 nk_J4_replacementNode rfl (by decide) (by first | exact Nat.le_of_ble_eq_true rfl | simp [Value.category, cat_rf]) (by omega) (by omega) dJ28_untreeify_16 rfl ZX.no (fun v w1 hr => ?_)
  obtain ⟨q, rfl, hq, hq1, ho⟩ := hr
  have hqC : q ∉ C := fun e => by rw [hN0 q e] at hq; cases hq
  have hN : NW w1 (fun a => a ∈ C ++ [q]) (up1 h' q he) (up1 k' q ke) (up1 v' q ve) (up1 nx' q none) := by
    intro a ha
    by_cases e : a = q
    · subst e
      rw [hq1]
      simp only [eNd, up1_s]
      rfl
    · have : a ∈ C := by simpa [e] using ha
      rw [ho a e, hN0 a this]
      simp only [eNd, up1_n e]
  have hA1 : FrA w0 w1 := hA.tr (FrA.new hq ho)
  have hnew1 : ∀ a, a ∈ C ++ [q] → w0 a = none := by
    intro a ha
    rcases List.mem_append.mp ha with h | h
    · exact hnew a h
    · simp at h
      subst h
      cases hw : w0 a with
      | none => rfl
      | some y => rw [hA a y hw] at hq; cases hq
  have hnd1 : (C ++ [q]).Nodup := by
    rw [List.nodup_append]
    exact ⟨hnd, by simp, fun a ha b hb => by simp at hb; subst hb; exact fun e => hqC (by rw [← e]; exact ha)⟩
  have key : ∀ (w2 : Wd) (lt : Option Value) (nx2 : Nat → Option Nat), NW w2 (fun a => a ∈ C ++ [q]) (up1 h' q he) (up1 k' q ke) (up1 v' q ve) nx2 → FrA w0 w2 → seg nx2 (C ++ [q]) none → Z g x 6 37 [some l0, some (.ref m), some (va_rf (hd (C ++ [q]) none)), lt, some (.ref e), some (.ref q)] [] w2 kc ks := by
    intro w2 lt nx2 hN hA2 s1
    refine Z.aload ok dJ28_untreeify_37 rfl (by first | exact isRf.r _ | exact isRf.n | exact isRf.v _ | assumption) ?_
    refine Z.astore_n (i := 3) ok dJ28_untreeify_39 rfl (by decide) (by first | exact isRf.r _ | exact isRf.n | exact isRf.v _ | assumption) ?_
    refine Z.aload ok dJ28_untreeify_40 rfl (by first | exact isRf.r _ | exact isRf.n | exact isRf.v _ | assumption) ?_
    refine Z.get (ci := 9) (C := RJ28) (T := TJ28) (N := 11) ok (hA2 _ _ he0) rfl in_J28 5 (by decide) q1277 (Or.inl rfl) (by rfl) dJ28_untreeify_42 ?_
    refine Z.astore ok dJ28_untreeify_45 (by decide) (by first | exact isRf.r _ | exact isRf.n | exact isRf.v _ | assumption) ?_
    refine Z.goto (tgt := 7) ok dJ28_untreeify_47 (by decide) ?_
    have hk := kont w2 q ⟨_, _, _, _, hA2, hN, s1, hnd1, hnew1, ?_⟩
    · rw [lst_last] at hk
      exact hk
    · rw [List.map_append, ← hmap]
      congr 1
      · exact map_up (fun a ha => up1_n (fun e => hqC (by rw [← e]; exact ha))) (fun a ha => up1_n (fun e => hqC (by rw [← e]; exact ha))) (fun a ha => up1_n (fun e => hqC (by rw [← e]; exact ha)))
      · simp only [List.map_cons, List.map_nil, dat, up1_s]
  refine Z.astore ok dJ28_untreeify_19 (by decide) (by first | exact isRf.r _ | exact isRf.n | exact isRf.v _ | assumption) ?_
  refine Z.aload_n ok dJ28_untreeify_21 rfl (by first | exact isRf.r _ | exact isRf.n | exact isRf.v _ | assumption) ?_
  by_cases hC : C = []
  · subst hC
    refine Z.ifnonnullN ok dJ28_untreeify_22 ?_
    refine Z.aload ok dJ28_untreeify_25 rfl (by first | exact isRf.r _ | exact isRf.n | exact isRf.v _ | assumption) ?_
    refine Z.astore_n (i := 2) ok dJ28_untreeify_27 rfl (by decide) (by first | exact isRf.r _ | exact isRf.n | exact isRf.v _ | assumption) ?_
    refine Z.goto (tgt := 37) ok dJ28_untreeify_28 (by decide) ?_
    exact key w1 _ _ hN hA1 ⟨up1_s, trivial⟩
  · obtain ⟨C0, t, rfl, ht⟩ := lst_snoc hC
    rw [hd_ne (e' := none) hC] at key
    have htt : t ∈ C0 ++ [t] ++ [q] := by simp
    rw [ht]
    refine Z.ifnonnullR (tgt := 31) ok dJ28_untreeify_22 (by decide) ?_
    refine Z.aload_n ok dJ28_untreeify_31 rfl (by first | exact isRf.r _ | exact isRf.n | exact isRf.v _ | assumption) ?_
    refine Z.aload ok dJ28_untreeify_32 rfl (by first | exact isRf.r _ | exact isRf.n | exact isRf.v _ | assumption) ?_
    refine Z.put (ci := 8) (C := RJ26) (T := TJ26) (N := 4) (ty0 := tyJ26) ok (hN t htt) (by first | decide | assumption) rfl in_J26 tyJ26_ok nmJ26 3 (by decide) q1277 (Or.inl rfl) rfl (okV_o (by first | exact isRf.r _ | exact isRf.n | exact isRf.v _ | assumption)) (by rfl) dJ28_untreeify_34 ?_
    refine key _ _ (up1 (up1 nx' q none) t (some q)) (fun a ha => ?_) (fun b y hb => ?_) (seg_snoc hs hnd hqC)
    · by_cases e : a = t
      · subst e
        rw [ws_s]
        simp only [eNd, up1_s]
        rfl
      · rw [ws_n e, hN a ha]
        simp only [eNd, up1_n e]
    · rw [ws_n (fun e => by rw [e, hnew1 t htt] at hb; cases hb)]
      exact hA1 b y hb
theorem utr_loop {x : Cx} {w0 : Wd} {m tm : Nat} {fsm : List Value} {B : List Nat} {h : Nat → Int32} {k v : Nat → Nat} {nx P L R pv : Nat → Option Nat} {rd : Nat → Int32} {l0 : Value} {kc ks : Nat} (ok : OK g x RJ28 cJ28_untreeify 6 3 (some (.object "java/util/HashMap$Node"))) (hm : w0 m = some (ob 7 fsm, tm)) (hT : TW w0 (fun a => a ∈ B) h k v nx P L R pv rd) (hseg : seg nx B none)
    (kont : ∀ (w : Wd) (C : List Nat) (l3 l5 : Option Value), UtS w0 w C (B.map (dat h k v)) → Z g x 6 7 [some l0, some (.ref m), some (va_rf (hd C none)), l3, some .null, l5] [] w kc ks) : ∀ (r D C : List Nat) (w : Wd) (l5 : Option Value), B = D ++ r → UtS w0 w C (D.map (dat h k v)) → Z g x 6 7 [some l0, some (.ref m), some (va_rf (hd C none)), some (va_rf (lst C none)), some (va_rf (hd r none)), l5] [] w (kc + r.length) (ks + 4 * r.length) := by
  intro r
  induction r with
  | nil =>
    intro D C w l5 hD hS
    rw [List.append_nil] at hD
    rw [← hD] at hS
    exact kont w C _ _ hS
  | cons e r ih =>
    intro D C w l5 hD hS
    have hx : nx e = hd r none := by
      rw [hD, seg_app] at hseg
      exact hseg.2.1
    have he0 := hT e (by rw [hD]; simp)
    simp only [eT, hx] at he0
    refine Z.room (kc' := kc + r.length + 1) (ks' := ks + 4 * r.length + 4) (by simp; omega) (by simp; omega) ?_
    refine utr_step ok hm he0 hS (fun w' q hS' => ?_)
    refine ih (D ++ [e]) (C ++ [q]) w' _ (by rw [hD]; simp) ?_
    have : (D ++ [e]).map (dat h k v) = D.map (dat h k v) ++ [(h e, k e, v e)] := by simp
    rw [this]
    exact hS'
theorem untree_ct {m tm y : Nat} {fsm : List Value} {r : List Nat} {h : Nat → Int32} {k v : Nat → Nat} {nx P L R pv : Nat → Option Nat} {rd : Nat → Int32} {S : Nat → Prop} (hm : w m = some (ob 7 fsm, tm)) (hT : TW w S h k v nx P L R pv rd) (hS : ∀ a, a ∈ y :: r → S a) (hseg : seg nx (y :: r) none) : Ct g yJ28_untreeify cJ28_untreeify 6 (some (.object "java/util/HashMap$Node")) 3 (r.length+1) (4*(r.length+1)) [.ref y, .ref m] w (fun o w' => ∃ C c, o = some (.ref c) ∧ hd C none = some c ∧ UtS w w' C ((y :: r).map (dat h k v))) noX := by
  refine Ct.of RJ28 "untreeify" ⟨rfl, rfl⟩ (by decide +kernel) (by simp [Value.category] <;> exact cat_rf _) (Nat.le_of_ble_eq_true rfl) (fun x ok hQ hN => ?_)
  show Z g x 6 0 [some (.ref y), some (.ref m), none, none, none, none] [] w (r.length+1) (4*(r.length+1))
  refine Z.null ok dJ28_untreeify_0 ?_
  refine Z.astore_n (i := 2) ok dJ28_untreeify_1 rfl (by decide) (by first | exact isRf.r _ | exact isRf.n | exact isRf.v _ | assumption) ?_
  refine Z.null ok dJ28_untreeify_2 ?_
  refine Z.astore_n (i := 3) ok dJ28_untreeify_3 rfl (by decide) (by first | exact isRf.r _ | exact isRf.n | exact isRf.v _ | assumption) ?_
  refine Z.aload_n ok dJ28_untreeify_4 rfl (by first | exact isRf.r _ | exact isRf.n | exact isRf.v _ | assumption) ?_
  refine Z.astore ok dJ28_untreeify_5 (by decide) (by first | exact isRf.r _ | exact isRf.n | exact isRf.v _ | assumption) ?_
  refine Z.room (kc' := 0 + (y :: r).length) (ks' := 0 + 4 * (y :: r).length) (by simp) (by simp) ?_
  refine utr_loop (B := y :: r) ok hm (fun a ha => hT a (hS a ha)) hseg ?_ (y :: r) [] [] w none rfl ⟨fun _ => 0, fun _ => 0, fun _ => 0, fun _ => none, FrA.rf, fun a ha => (by cases ha), trivial, List.nodup_nil, fun a ha => (by cases ha), rfl⟩
  intro w1 C l3 l5 hS1
  refine Z.aload ok dJ28_untreeify_7 rfl (by first | exact isRf.r _ | exact isRf.n | exact isRf.v _ | assumption) ?_
  refine Z.ifnullN (tgt := 50) ok dJ28_untreeify_9 (by decide) ?_
  refine Z.aload_n ok dJ28_untreeify_50 rfl (by first | exact isRf.r _ | exact isRf.n | exact isRf.v _ | assumption) ?_
  obtain ⟨c, hc⟩ : ∃ c, hd C none = some c := by
    obtain ⟨_, _, _, _, -, -, -, -, -, hmap⟩ := hS1
    cases C with
    | nil => cases hmap
    | cons c C => exact ⟨c, rfl⟩
  refine Z.aret ok hQ (by first | exact Or.inl ⟨_, rfl⟩ | exact Or.inr ⟨_, rfl⟩) (by first | exact isRf.r _ | exact isRf.n | exact isRf.v _ | assumption) dJ28_untreeify_51 ?_
  exact ⟨C, c, by rw [hc]; rfl, hc, hS1⟩
end BINS2
