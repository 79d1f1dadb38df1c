/-! ===== BINS: treeifyBin (64 places and more), untreeify ===== -/
abbrev Dt : Type := Int32 × Nat × Nat
abbrev dat (h : Nat → Int32) (k v : Nat → Nat) (a : Nat) : Dt := (h a, k a, v a)
def PBin (w : Wd) (B : List Nat) (ds : List Dt) : Prop := ∃ h k v nx, NW w (fun a => a ∈ B) h k v nx ∧ seg nx B none ∧ B.Nodup ∧ (B.map (dat h k v)).Perm ds
def TBin (w : Wd) (B : List Nat) (ds : List Dt) : Prop := ∃ h k v nx P L R pv rd root lo hi, TW w (fun a => a ∈ B) h k v nx P L R pv rd ∧ seg nx B none ∧ sep pv B none ∧ B.Nodup ∧ (B.map (dat h k v)).Perm ds ∧ Tr (fun a => a ∈ B) root (fun a => (h a).toInt) P L R lo hi
theorem lst_snoc {C : List Nat} (h : C ≠ []) : ∃ C0 t, C = C0 ++ [t] ∧ lst C none = some t := by
  obtain ⟨C0, t, rfl⟩ : ∃ C0 t, C = C0 ++ [t] := ⟨C.dropLast, C.getLast h, (List.dropLast_concat_getLast h).symm⟩
  exact ⟨C0, t, rfl, by rw [lst_app]; rfl⟩
theorem seg_snoc {nx : Nat → Option Nat} {C0 : List Nat} {t q : Nat} (hs : seg nx (C0 ++ [t]) none) (hnd : (C0 ++ [t]).Nodup) (hq : q ∉ C0 ++ [t]) : seg (up1 (up1 nx q none) t (some q)) (C0 ++ [t] ++ [q]) none := by
  rw [seg_app] at hs ⊢
  rw [seg_app]
  have hqt : q ≠ t := fun e => hq (by rw [e]; simp)
  have hqC : q ∉ C0 := fun e => hq (by simp [e])
  have htC : t ∉ C0 := fun e => (List.nodup_append.mp hnd).2.2 t e t (by simp) rfl
  refine ⟨⟨seg_eq (fun a ha => ?_) hs.1, up1_s, trivial⟩, ?_, trivial⟩
  · rw [up1_n (fun e => htC (by rw [← e]; exact ha)), up1_n (fun e => hqC (by rw [← e]; exact ha))]
  · rw [up1_n hqt, up1_s]
    rfl
theorem sep_snoc {pv : Nat → Option Nat} {C : List Nat} {q : Nat} (hs : sep pv C none) (hq : q ∉ C) : sep (up1 pv q (lst C none)) (C ++ [q]) none := by
  rw [sep_app]
  exact ⟨sep_eq (fun a ha => up1_n (fun e => hq (by rw [← e]; exact ha))) hs, up1_s, trivial⟩
theorem map_up {h h' : Nat → Int32} {k v k' v' : Nat → Nat} {C : List Nat} (e1 : ∀ a, a ∈ C → h' a = h a) (e2 : ∀ a, a ∈ C → k' a = k a) (e3 : ∀ a, a ∈ C → v' a = v a) : C.map (dat h' k' v') = C.map (dat h k v) := List.map_congr_left (fun a ha => by simp only [dat, e1 a ha, e2 a ha, e3 a ha])
theorem hd_ne {C Y : List Nat} {e e' : Option Nat} (h : C ≠ []) : hd (C ++ Y) e = hd C e' := by
  cases C with
  | nil => exact absurd rfl h
  | cons a C => rfl
theorem lst_last (C : List Nat) (q : Nat) (e : Option Nat) : lst (C ++ [q]) e = some q := by rw [lst_app]; rfl
/-- new tree nodes, a chain C with the data ds, are made; what was in w0 stays -/
def TfS (w0 w : Wd) (C : List Nat) (ds : List Dt) : Prop := ∃ h k v nx P L R pv rd, FrA w0 w ∧ TW w (fun a => a ∈ C) h k v nx P L R pv rd ∧ seg nx C none ∧ sep pv C none ∧ C.Nodup ∧ (∀ a, a ∈ C → w0 a = none) ∧ C.map (dat h k v) = ds
theorem TW.new {w w1 : Wd} {C : List Nat} {q kk vv : Nat} {hh : Int32} {nn : Option Nat} {h : Nat → Int32} {k v : Nat → Nat} {nx P L R pv : Nat → Option Nat} {rd : Nat → Int32} (hT : TW w (fun a => a ∈ C) h k v nx P L R pv rd) (hqC : q ∉ C) (hq1 : w1 q = some (ob 9 [.null, .null, .int hh, .ref kk, .ref vv, va_rf nn, .null, .null, .null, .null, .int 0], 5)) (ho : ∀ b, b ≠ q → w1 b = w b) : TW w1 (fun a => a ∈ C ++ [q]) (up1 h q hh) (up1 k q kk) (up1 v q vv) (up1 nx q nn) (up1 P q none) (up1 L q none) (up1 R q none) (up1 pv q none) (up1 rd q 0) := by
  intro a ha
  by_cases e : a = q
  · subst e
    rw [hq1]
    simp only [eT, up1_s]
    rfl
  · have : a ∈ C := by simpa [e] using ha
    rw [ho a e, hT a this]
    simp only [eT, up1_n e]
section BINS
variable {g : Gx}
theorem tfb_step {x : Cx} {w0 w : Wd} {m T e tm ke ve : Nat} {hh he i1 i2 : Int32} {ne : Option Nat} {fsm : List Value} {kc ks : Nat} {C : List Nat} {ds : List Dt} {l8 : Option Value} (ok : OK g x RJ4 cJ4_treeifyBin 9 5 none) (hm : w0 m = some (ob 7 fsm, tm)) (he0 : w0 e = some (ob 8 [.int he, .ref ke, .ref ve, va_rf ne], 5)) (hS : TfS w0 w C ds)
    (kont : ∀ (w' : Wd) (q : Nat), TfS w0 w' (C ++ [q]) (ds ++ [(he, ke, ve)]) → Z g x 9 90 [some (.ref m), some (.ref T), some (.int hh), some (.int i1), some (.int i2), some (va_rf ne), some (va_rf (hd (C ++ [q]) none)), some (va_rf (lst (C ++ [q]) none)), some (.ref q)] [va_rf ne] w' kc ks) : Z g x 9 43 [some (.ref m), some (.ref T), some (.int hh), some (.int i1), some (.int i2), some (.ref e), some (va_rf (hd C none)), some (va_rf (lst C none)), l8] [] w (kc + 1) (ks + 11) := by
  obtain ⟨h', k', v', nx', P, L, R, pv, rd, hA, hT0, hs, hp, hnd, hnew, hmap⟩ := hS
  refine Z.aload_n ok dJ4_treeifyBin_43 rfl (by first | exact isRf.r _ | exact isRf.n | exact isRf.v _ | assumption) ?_
  refine Z.aload ok dJ4_treeifyBin_44 rfl (by first | exact isRf.r _ | exact isRf.n | exact isRf.v _ | assumption) ?_
  refine Z.null ok dJ4_treeifyBin_46 ?_
  refine Z.callV (kc' := kc) (ks' := ks) (ci := 7) (q := (RJ4, TJ4, 8)) (C := RJ4) ok (replT_ct (m := m) (hA _ _ he0)) (hA _ _ hm) rfl rfl q1356 q1357 (Or.inl q1358) q21 q1359 nk_J4_replacementTreeNode rfl (by decide) (by first | exact Nat.le_of_ble_eq_true rfl | simp [Value.category, cat_rf]) (by omega) (by omega) dJ4_treeifyBin_47 rfl ZX.no (fun v w1 hr => ?_)
  obtain ⟨q, rfl, hq, hq1, ho⟩ := hr
  have hqC : q ∉ C := fun e => by rw [hT0 q e] at hq; cases hq
  have hT := hT0.new (nn := none) hqC hq1 ho
  have hB : FrB (fun a => a ∈ C ++ [q]) w1 w1 := FrB.rf
  have hA1 : FrA w0 w1 := hA.tr (FrA.new hq ho)
  have hnew1 : ∀ a, a ∈ C ++ [q] → w0 a = none := by
    intro a ha
    rcases List.mem_append.mp ha with h | h
    · exact hnew a h
    · simp at h
      subst h
      cases hw : w0 a with
      | none => rfl
      | some y => rw [hA a y hw] at hq; cases hq
  have hnd1 : (C ++ [q]).Nodup := by
    rw [List.nodup_append]
    exact ⟨hnd, by simp, fun a ha b hb => by simp at hb; subst hb; exact fun e => hqC (by rw [← e]; exact ha)⟩
  have key : ∀ (w2 : Wd) (lt : Option Value) (nx2 pv2 : Nat → Option Nat), TW w2 (fun a => a ∈ C ++ [q]) (up1 h' q he) (up1 k' q ke) (up1 v' q ve) nx2 (up1 P q none) (up1 L q none) (up1 R q none) pv2 (up1 rd q 0) → FrB (fun a => a ∈ C ++ [q]) w1 w2 → seg nx2 (C ++ [q]) none → sep pv2 (C ++ [q]) none → Z g x 9 78 [some (.ref m), some (.ref T), some (.int hh), some (.int i1), some (.int i2), some (.ref e), some (va_rf (hd (C ++ [q]) none)), lt, some (.ref q)] [] w2 kc ks := by
    intro w2 lt nx2 pv2 hT hB s1 s2
    have hA2 : FrA w0 w2 := fun b y hb => by
      rw [hB b (fun e => by rw [hnew1 b e] at hb; cases hb)]
      exact hA1 b y hb
    refine Z.aload ok dJ4_treeifyBin_78 rfl (by first | exact isRf.r _ | exact isRf.n | exact isRf.v _ | assumption) ?_
    refine Z.astore ok dJ4_treeifyBin_80 (by decide) (by first | exact isRf.r _ | exact isRf.n | exact isRf.v _ | assumption) ?_
    refine Z.aload ok dJ4_treeifyBin_82 rfl (by first | exact isRf.r _ | exact isRf.n | exact isRf.v _ | assumption) ?_
    refine Z.get (ci := 8) (C := RJ26) (T := TJ26) (N := 4) ok (hA2 _ _ he0) rfl in_J26 3 (by decide) q1278 (Or.inl rfl) (by rfl) dJ4_treeifyBin_84 ?_
    refine Z.dup ok dJ4_treeifyBin_87 (by first | rfl | exact cat_rf _) ?_
    refine Z.astore ok dJ4_treeifyBin_88 (by decide) (by first | exact isRf.r _ | exact isRf.n | exact isRf.v _ | assumption) ?_
    have hk := kont w2 q ⟨_, _, _, _, _, _, _, _, _, hA2, hT, s1, s2, hnd1, hnew1, ?_⟩
    · rw [lst_last] at hk
      exact hk
    · rw [List.map_append, ← hmap]
      congr 1
      · exact map_up (fun a ha => up1_n (fun e => hqC (by rw [← e]; exact ha))) (fun a ha => up1_n (fun e => hqC (by rw [← e]; exact ha))) (fun a ha => up1_n (fun e => hqC (by rw [← e]; exact ha)))
      · simp only [List.map_cons, List.map_nil, dat, up1_s]
  refine Z.astore ok dJ4_treeifyBin_50 (by decide) (by first | exact isRf.r _ | exact isRf.n | exact isRf.v _ | assumption) ?_
  refine Z.aload ok dJ4_treeifyBin_52 rfl (by first | exact isRf.r _ | exact isRf.n | exact isRf.v _ | assumption) ?_
  by_cases hC : C = []
  · subst hC
    refine Z.ifnonnullN ok dJ4_treeifyBin_54 ?_
    refine Z.aload ok dJ4_treeifyBin_57 rfl (by first | exact isRf.r _ | exact isRf.n | exact isRf.v _ | assumption) ?_
    refine Z.astore ok dJ4_treeifyBin_59 (by decide) (by first | exact isRf.r _ | exact isRf.n | exact isRf.v _ | assumption) ?_
    refine Z.goto (tgt := 78) ok dJ4_treeifyBin_61 (by decide) ?_
    exact key w1 _ _ _ hT hB ⟨up1_s, trivial⟩ ⟨up1_s, trivial⟩
  · obtain ⟨C0, t, rfl, ht⟩ := lst_snoc hC
    rw [hd_ne (e' := none) hC] at key
    have hqt : q ∈ C0 ++ [t] ++ [q] := by simp
    have htt : t ∈ C0 ++ [t] ++ [q] := by simp
    rw [ht]
    refine Z.ifnonnullR (tgt := 64) ok dJ4_treeifyBin_54 (by decide) ?_
    refine Z.aload ok dJ4_treeifyBin_64 rfl (by first | exact isRf.r _ | exact isRf.n | exact isRf.v _ | assumption) ?_
    refine Z.aload ok dJ4_treeifyBin_66 rfl (by first | exact isRf.r _ | exact isRf.n | exact isRf.v _ | assumption) ?_
    refine Z.put (ci := 9) (C := RJ28) (T := TJ28) (N := 11) (ty0 := tyJ28) ok (by exact hT _ hqt) (by first | decide | assumption) rfl in_J28 tyJ28_ok nmJ28 9 (by decide) q1331 (Or.inl rfl) rfl (okV_o (by first | exact isRf.r _ | exact isRf.n | exact isRf.v _ | assumption)) (by rfl) dJ4_treeifyBin_68 ?_
    refine Z.tw_pv (some t) hT hB hqt (fun w2 hT hB => ?_)
    refine Z.aload ok dJ4_treeifyBin_71 rfl (by first | exact isRf.r _ | exact isRf.n | exact isRf.v _ | assumption) ?_
    refine Z.aload ok dJ4_treeifyBin_73 rfl (by first | exact isRf.r _ | exact isRf.n | exact isRf.v _ | assumption) ?_
    refine Z.put (ci := 9) (C := RJ28) (T := TJ28) (N := 11) (ty0 := tyJ28) ok (by exact hT _ htt) (by first | decide | assumption) rfl in_J28 tyJ28_ok nmJ28 5 (by decide) q1279 (Or.inr q1276) rfl (okV_o (by first | exact isRf.r _ | exact isRf.n | exact isRf.v _ | assumption)) (by rfl) dJ4_treeifyBin_75 ?_
    refine Z.tw_nx (some q) hT hB htt (fun w3 hT hB => ?_)
    refine key w3 _ _ _ hT hB (seg_snoc hs hnd hqC) ?_
    have h9 : up1 (up1 pv q none) q (some t) = up1 pv q (lst (C0 ++ [t]) none) := by
      rw [ht]
      funext a
      unfold up1
      split <;> rfl
    rw [h9]
    exact sep_snoc hp hqC
theorem tfb_loop {x : Cx} {w0 : Wd} {m T tm : Nat} {hh i1 i2 : Int32} {fsm : List Value} {B : List Nat} {h : Nat → Int32} {k v : Nat → Nat} {nx : Nat → Option Nat} {kc ks : Nat} (ok : OK g x RJ4 cJ4_treeifyBin 9 5 none) (hm : w0 m = some (ob 7 fsm, tm)) (hN : NW w0 (fun a => a ∈ B) h k v nx) (hseg : seg nx B none)
    (kont : ∀ (w : Wd) (C : List Nat) (l7 l8 : Option Value), TfS w0 w C (B.map (dat h k v)) → Z g x 9 93 [some (.ref m), some (.ref T), some (.int hh), some (.int i1), some (.int i2), some .null, some (va_rf (hd C none)), l7, l8] [] w kc ks) : ∀ (r : List Nat) (e : Nat) (D C : List Nat) (w : Wd) (l8 : Option Value), B = D ++ e :: r → TfS w0 w C (D.map (dat h k v)) → Z g x 9 43 [some (.ref m), some (.ref T), some (.int hh), some (.int i1), some (.int i2), some (.ref e), some (va_rf (hd C none)), some (va_rf (lst C none)), l8] [] w (kc + (r.length + 1)) (ks + 11 * (r.length + 1)) := by
  intro r
  induction r with
  | nil =>
    intro e D C w l8 hD hS
    have hx : nx e = none := by
      rw [hD, seg_app] at hseg
      exact hseg.2.1
    have he0 := hN e (by rw [hD]; simp)
    simp only [eNd, hx] at he0
    refine Z.room (kc' := kc + 1) (ks' := ks + 11) (by simp) (by simp) ?_
    refine tfb_step ok hm he0 hS (fun w' q hS' => ?_)
    refine Z.ifnonnullN ok dJ4_treeifyBin_90 ?_
    refine kont w' (C ++ [q]) _ _ ?_
    have : B.map (dat h k v) = D.map (dat h k v) ++ [(h e, k e, v e)] := by rw [hD]; simp
    rw [this]
    exact hS'
  | cons e2 r ih =>
    intro e D C w l8 hD hS
    have hx : nx e = some e2 := by
      rw [hD, seg_app] at hseg
      exact hseg.2.1
    have he0 := hN e (by rw [hD]; simp)
    simp only [eNd, hx] at he0
    refine Z.room (kc' := kc + (r.length + 1) + 1) (ks' := ks + 11 * (r.length + 1) + 11) (by simp; omega) (by simp; omega) ?_
    refine tfb_step ok hm he0 hS (fun w' q hS' => ?_)
    refine Z.ifnonnullR (tgt := 43) ok dJ4_treeifyBin_90 (by decide) ?_
    refine ih e2 (D ++ [e]) (C ++ [q]) w' _ (by rw [hD]; simp) ?_
    have : (D ++ [e]).map (dat h k v) = D.map (dat h k v) ++ [(h e, k e, v e)] := by simp
    rw [this]
    exact hS'
end BINS
