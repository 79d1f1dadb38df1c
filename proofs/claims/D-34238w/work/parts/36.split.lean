/-! ===== TREE BINS: split ===== -/
def Bin (w : Wd) (C : List Nat) (ds : List Dt) : Prop := PBin w C ds ∨ TBin w C ds
theorem Bin.nil {w : Wd} : Bin w [] [] := Or.inl ⟨fun _ => 0, fun _ => 0, fun _ => 0, fun _ => none, fun a ha => (by cases ha), trivial, List.nodup_nil, List.Perm.refl _⟩
section SPLIT
variable {g : Gx} {h : Nat → Int32} {k v : Nat → Nat} {nx P L R pv : Nat → Option Nat} {rd : Nat → Int32}
theorem split_lo {x : Cx} {w : Wd} {m T n i i0 bt tm : Nat} {fsm : List Value} {f : Nat → Option Nat} {C : List Nat} {ds : List Dt} {oh : Option Nat} {kc ks : Nat} {l0 l5 l7 l9 : Value} {l12 l13 : Option Value} {oc : Int32} (ok : OK g x RJ28 cJ28_split 14 4 none) (hm : w m = some (ob 7 fsm, tm)) (hT : TW w (fun a => a ∈ C) h k v nx P L R pv rd) (hseg : seg nx C none) (hsep : sep pv C none) (hnd : C.Nodup) (hTab : w T = some (eN g n f, 5)) (hn : n < 2 ^ 30) (hin : i < n) (hi0 : i0 = i) (hf0 : f i = none) (hperm : (C.map (dat h k v)).Perm ds) (hix : ∀ d, d ∈ ds → (nI n - 1) &&& d.1 = nI i) (hinj : (ds.map (fun d => d.1)).Nodup) (hlen : C.length < 2 ^ 30) (hTr : oh = none → C ≠ [] → ∃ root lo hi, Tr (fun a => a ∈ C) root (fun a => (h a).toInt) P L R lo hi)
    (kont : ∀ (w1 : Wd) (f1 : Nat → Option Nat) (C1 : List Nat), Bin w1 C1 ds → w1 T = some (eN g n f1, 5) → (∀ j, j ≠ i → f1 j = f j) → f1 i = hd C1 none → (∀ b, b ∉ C → b ≠ T → w b ≠ none → w1 b = w b) → Z g x 14 171 [some l0, some (.ref m), some (.ref T), some (.int (nI i)), some (.int (nI bt)), some l5, some (va_rf (hd C none)), some l7, some (va_rf oh), some l9, some (.int (nI C.length)), some (.int oc), l12, l13] [] w1 kc ks) : Z g x 14 131 [some l0, some (.ref m), some (.ref T), some (.int (nI i)), some (.int (nI bt)), some l5, some (va_rf (hd C none)), some l7, some (va_rf oh), some l9, some (.int (nI C.length)), some (.int oc), l12, l13] [] w (kc + C.length) (ks + 4 * C.length) := by
  cases C with
  | nil =>
    refine Z.aload ok dJ28_split_131 rfl (by first | exact isRf.r _ | exact isRf.n | exact isRf.v _ | assumption) ?_
    refine Z.ifnullN (tgt := 171) ok dJ28_split_133 (by decide) ?_
    have e : ds = [] := hperm.symm.eq_nil
    subst e
    exact kont w f [] Bin.nil hTab (fun _ _ => rfl) hf0 (fun _ _ _ _ => rfl)
  | cons c r =>
    have hcc : (fun a => a ∈ c :: r) c := by simp
    have hTC : T ∉ c :: r := fun e => by rw [hT T e] at hTab; cases hTab
    refine Z.aload ok dJ28_split_131 rfl (by first | exact isRf.r _ | exact isRf.n | exact isRf.v _ | assumption) ?_
    refine Z.ifnullR ok dJ28_split_133 ?_
    refine Z.iload ok dJ28_split_136 rfl ?_
    refine Z.bipush (v := 6) ok dJ28_split_138 (by decide) ?_
    by_cases hle : (c :: r).length ≤ 6
    · refine Z.icmp_gt (tgt := 155) ok dJ28_split_140 (by decide) (fun hc => absurd hc (nI_nlt (show (c :: r).length ≤ 6 from hle) (by decide))) (fun _ => ?_)
      refine Z.aload_n ok dJ28_split_143 rfl (by first | exact isRf.r _ | exact isRf.n | exact isRf.v _ | assumption) ?_
      refine Z.iload_n ok dJ28_split_144 rfl ?_
      refine Z.aload ok dJ28_split_145 rfl (by first | exact isRf.r _ | exact isRf.n | exact isRf.v _ | assumption) ?_
      refine Z.aload_n ok dJ28_split_147 rfl (by first | exact isRf.r _ | exact isRf.n | exact isRf.v _ | assumption) ?_
      refine Z.room (kc' := kc + (r.length + 1)) (ks' := ks + 4 * (r.length + 1)) (by simp) (by simp) ?_
      refine Z.callV (kc' := kc) (ks' := ks) (ci := 9) (q := (RJ28, TJ28, 11)) (C := RJ28) ok (untree_ct (y := c) (r := r) (S := fun a => a ∈ c :: r) hm hT (fun _ ha => ha) hseg) (hT c hcc) rfl rfl q1251 q1252 (Or.inl q1253) q54 q1254 nk_J28_untreeify rfl (by decide) (by first | exact Nat.le_of_ble_eq_true rfl | simp [Value.category, cat_rf]) (by omega) (by omega) dJ28_split_148 rfl ZX.no (fun v w1 hr => ?_)
      obtain ⟨C1, c1, rfl, hc1, h', k', v', nx', hA, hN, hs, hnd', hnew, hmap⟩ := hr
      have hTab1 := hA _ _ hTab
      have hc1m : c1 ∈ C1 := by
        cases C1 with
        | nil => cases hc1
        | cons a C => cases hc1; simp
      have hTC1 : T ∉ C1 := fun h => by rw [hnew T h] at hTab; cases hTab
      refine Z.nast ok hTab1 (by decide) (hN c1 hc1m) rfl (Or.inl rfl) (vp_in_nI hin (by omega)) dJ28_split_151 ?_
      rw [nI_clamp (by omega)]
      refine Z.goto (tgt := 171) ok dJ28_split_152 (by decide) ?_
      refine kont _ (va_up f i (some c1)) C1 (Or.inl ⟨h', k', v', nx', fun a ha => (ws_n (fun e => hTC1 (by rw [← e]; exact ha))).trans (hN a ha), hs, hnd', by rw [hmap]; exact hperm⟩) ws_s (fun j hj => if_neg hj) ((if_pos rfl).trans hc1.symm) (fun b hb hbT hwb => ?_)
      rw [ws_n hbT]
      cases hw : w b with
      | none => exact absurd hw hwb
      | some y => exact hA b y hw
    · refine Z.icmp_gt (tgt := 155) ok dJ28_split_140 (by decide) (fun _ => ?_) (fun hc => absurd (nI_lt (show 6 < (c :: r).length from Nat.not_le.mp hle) (by omega)) hc)
      refine Z.room (kc' := kc) (ks' := ks) (by omega) (by omega) ?_
      refine Z.aload_n ok dJ28_split_155 rfl (by first | exact isRf.r _ | exact isRf.n | exact isRf.v _ | assumption) ?_
      refine Z.iload_n ok dJ28_split_156 rfl ?_
      refine Z.aload ok dJ28_split_157 rfl (by first | exact isRf.r _ | exact isRf.n | exact isRf.v _ | assumption) ?_
      refine Z.nast ok hTab (by decide) (hT c hcc) rfl (Or.inr (q1658)) (vp_in_nI hin (by omega)) dJ28_split_159 ?_
      rw [nI_clamp (by omega)]
      have hT1 : TW (wset w T (eN g n (va_up f i (some c))) 5) (fun a => a ∈ c :: r) h k v nx P L R pv rd := fun a ha => (ws_n (fun e => hTC (by rw [← e]; exact ha))).trans (hT a ha)
      refine Z.aload ok dJ28_split_160 rfl (by first | exact isRf.r _ | exact isRf.n | exact isRf.v _ | assumption) ?_
      cases hoh : oh with
      | none =>
        rw [hoh] at kont
        refine Z.ifnullN (tgt := 171) ok dJ28_split_162 (by decide) ?_
        obtain ⟨root, lo, hi, H⟩ := hTr hoh (by simp)
        exact kont _ (va_up f i (some c)) (c :: r) (Or.inr ⟨h, k, v, nx, P, L, R, pv, rd, root, lo, hi, hT1, hseg, hsep, hnd, hperm, H⟩) ws_s (fun j hj => if_neg hj) (if_pos rfl) (fun b _ hbT _ => ws_n hbT)
      | some o =>
        rw [hoh] at kont
        refine Z.ifnullR ok dJ28_split_162 ?_
        refine Z.aload ok dJ28_split_165 rfl (by first | exact isRf.r _ | exact isRf.n | exact isRf.v _ | assumption) ?_
        refine Z.aload_n ok dJ28_split_167 rfl (by first | exact isRf.r _ | exact isRf.n | exact isRf.v _ | assumption) ?_
        refine Z.callV (kc' := kc) (ks' := ks) (ci := 9) (q := (RJ28, TJ28, 11)) (C := RJ28) ok (treeify_ct (y := c) (r := r) hT1 (fun a ha => ha) ws_s hTC hn hin (dat_all (Q := fun d => (nI n - 1) &&& d.1 = nI i) hperm hix) (if_pos rfl) hseg hsep hnd (dat_inj hperm hinj)) (hT1 c hcc) rfl rfl q1289 q1290 (Or.inl q1291) q54 q1292 nk_J28_treeify rfl (by decide) (by first | exact Nat.le_of_ble_eq_true rfl | simp [Value.category, cat_rf]) (by omega) (by omega) dJ28_split_168 rfl ZX.no (fun v w2 hr => ?_)
        obtain ⟨rfl, B', nx2, P2, L2, R2, pv2, rd2, root, lo, hi, f', p1, p2, p3, p4, p5, p6, p7, p8, p9⟩ := hr
        refine kont w2 f' B' (Or.inr ⟨h, k, v, nx2, P2, L2, R2, pv2, rd2, root, lo, hi, fun a ha => p2 a (p1.mem_iff.mp ha), p6, p7, p1.nodup_iff.mpr hnd, (p1.map _).trans hperm, p8⟩) p3 (fun j hj => (p4 j hj).trans (if_neg hj)) p5 (fun b hb hbT _ => ?_)
        rw [p9 b (fun h => h.elim hb hbT), ws_n hbT]
theorem split_hi {x : Cx} {w : Wd} {m T n i i0 bt tm : Nat} {fsm : List Value} {f : Nat → Option Nat} {C : List Nat} {ds : List Dt} {oh : Option Nat} {kc ks : Nat} {l0 l5 l7 l9 : Value} {l12 l13 : Option Value} {oc : Int32} (ok : OK g x RJ28 cJ28_split 14 4 none) (hm : w m = some (ob 7 fsm, tm)) (hT : TW w (fun a => a ∈ C) h k v nx P L R pv rd) (hseg : seg nx C none) (hsep : sep pv C none) (hnd : C.Nodup) (hTab : w T = some (eN g n f, 5)) (hn : n < 2 ^ 30) (hin : i < n) (hi0 : i = i0 + bt) (hf0 : f i = none) (hperm : (C.map (dat h k v)).Perm ds) (hix : ∀ d, d ∈ ds → (nI n - 1) &&& d.1 = nI i) (hinj : (ds.map (fun d => d.1)).Nodup) (hlen : C.length < 2 ^ 30) (hTr : oh = none → C ≠ [] → ∃ root lo hi, Tr (fun a => a ∈ C) root (fun a => (h a).toInt) P L R lo hi)
    (kont : ∀ (w1 : Wd) (f1 : Nat → Option Nat) (C1 : List Nat), Bin w1 C1 ds → w1 T = some (eN g n f1, 5) → (∀ j, j ≠ i → f1 j = f j) → f1 i = hd C1 none → (∀ b, b ∉ C → b ≠ T → w b ≠ none → w1 b = w b) → Z g x 14 217 [some l0, some (.ref m), some (.ref T), some (.int (nI i0)), some (.int (nI bt)), some l5, some (va_rf oh), some l7, some (va_rf (hd C none)), some l9, some (.int oc), some (.int (nI C.length)), l12, l13] [] w1 kc ks) : Z g x 14 171 [some l0, some (.ref m), some (.ref T), some (.int (nI i0)), some (.int (nI bt)), some l5, some (va_rf oh), some l7, some (va_rf (hd C none)), some l9, some (.int oc), some (.int (nI C.length)), l12, l13] [] w (kc + C.length) (ks + 4 * C.length) := by
  cases C with
  | nil =>
    refine Z.aload ok dJ28_split_171 rfl (by first | exact isRf.r _ | exact isRf.n | exact isRf.v _ | assumption) ?_
    refine Z.ifnullN (tgt := 217) ok dJ28_split_173 (by decide) ?_
    have e : ds = [] := hperm.symm.eq_nil
    subst e
    exact kont w f [] Bin.nil hTab (fun _ _ => rfl) hf0 (fun _ _ _ _ => rfl)
  | cons c r =>
    have hcc : (fun a => a ∈ c :: r) c := by simp
    have hTC : T ∉ c :: r := fun e => by rw [hT T e] at hTab; cases hTab
    refine Z.aload ok dJ28_split_171 rfl (by first | exact isRf.r _ | exact isRf.n | exact isRf.v _ | assumption) ?_
    refine Z.ifnullR ok dJ28_split_173 ?_
    refine Z.iload ok dJ28_split_176 rfl ?_
    refine Z.bipush (v := 6) ok dJ28_split_178 (by decide) ?_
    by_cases hle : (c :: r).length ≤ 6
    · refine Z.icmp_gt (tgt := 198) ok dJ28_split_180 (by decide) (fun hc => absurd hc (nI_nlt (show (c :: r).length ≤ 6 from hle) (by decide))) (fun _ => ?_)
      refine Z.aload_n ok dJ28_split_183 rfl (by first | exact isRf.r _ | exact isRf.n | exact isRf.v _ | assumption) ?_
      refine Z.iload_n ok dJ28_split_184 rfl ?_
      refine Z.iload ok dJ28_split_185 rfl ?_
      refine Z.iadd ok dJ28_split_187 ?_
      refine Z.aload ok dJ28_split_188 rfl (by first | exact isRf.r _ | exact isRf.n | exact isRf.v _ | assumption) ?_
      refine Z.aload_n ok dJ28_split_190 rfl (by first | exact isRf.r _ | exact isRf.n | exact isRf.v _ | assumption) ?_
      rw [nI_add, ← hi0]
      refine Z.room (kc' := kc + (r.length + 1)) (ks' := ks + 4 * (r.length + 1)) (by simp) (by simp) ?_
      refine Z.callV (kc' := kc) (ks' := ks) (ci := 9) (q := (RJ28, TJ28, 11)) (C := RJ28) ok (untree_ct (y := c) (r := r) (S := fun a => a ∈ c :: r) hm hT (fun _ ha => ha) hseg) (hT c hcc) rfl rfl q1251 q1252 (Or.inl q1253) q54 q1254 nk_J28_untreeify rfl (by decide) (by first | exact Nat.le_of_ble_eq_true rfl | simp [Value.category, cat_rf]) (by omega) (by omega) dJ28_split_191 rfl ZX.no (fun v w1 hr => ?_)
      obtain ⟨C1, c1, rfl, hc1, h', k', v', nx', hA, hN, hs, hnd', hnew, hmap⟩ := hr
      have hTab1 := hA _ _ hTab
      have hc1m : c1 ∈ C1 := by
        cases C1 with
        | nil => cases hc1
        | cons a C => cases hc1; simp
      have hTC1 : T ∉ C1 := fun h => by rw [hnew T h] at hTab; cases hTab
      refine Z.nast ok hTab1 (by decide) (hN c1 hc1m) rfl (Or.inl rfl) (vp_in_nI hin (by omega)) dJ28_split_194 ?_
      rw [nI_clamp (by omega)]
      refine Z.goto (tgt := 217) ok dJ28_split_195 (by decide) ?_
      refine kont _ (va_up f i (some c1)) C1 (Or.inl ⟨h', k', v', nx', fun a ha => (ws_n (fun e => hTC1 (by rw [← e]; exact ha))).trans (hN a ha), hs, hnd', by rw [hmap]; exact hperm⟩) ws_s (fun j hj => if_neg hj) ((if_pos rfl).trans hc1.symm) (fun b hb hbT hwb => ?_)
      rw [ws_n hbT]
      cases hw : w b with
      | none => exact absurd hw hwb
      | some y => exact hA b y hw
    · refine Z.icmp_gt (tgt := 198) ok dJ28_split_180 (by decide) (fun _ => ?_) (fun hc => absurd (nI_lt (show 6 < (c :: r).length from Nat.not_le.mp hle) (by omega)) hc)
      refine Z.room (kc' := kc) (ks' := ks) (by omega) (by omega) ?_
      refine Z.aload_n ok dJ28_split_198 rfl (by first | exact isRf.r _ | exact isRf.n | exact isRf.v _ | assumption) ?_
      refine Z.iload_n ok dJ28_split_199 rfl ?_
      refine Z.iload ok dJ28_split_200 rfl ?_
      refine Z.iadd ok dJ28_split_202 ?_
      refine Z.aload ok dJ28_split_203 rfl (by first | exact isRf.r _ | exact isRf.n | exact isRf.v _ | assumption) ?_
      rw [nI_add, ← hi0]
      refine Z.nast ok hTab (by decide) (hT c hcc) rfl (Or.inr (q1658)) (vp_in_nI hin (by omega)) dJ28_split_205 ?_
      rw [nI_clamp (by omega)]
      have hT1 : TW (wset w T (eN g n (va_up f i (some c))) 5) (fun a => a ∈ c :: r) h k v nx P L R pv rd := fun a ha => (ws_n (fun e => hTC (by rw [← e]; exact ha))).trans (hT a ha)
      refine Z.aload ok dJ28_split_206 rfl (by first | exact isRf.r _ | exact isRf.n | exact isRf.v _ | assumption) ?_
      cases hoh : oh with
      | none =>
        rw [hoh] at kont
        refine Z.ifnullN (tgt := 217) ok dJ28_split_208 (by decide) ?_
        obtain ⟨root, lo, hi, H⟩ := hTr hoh (by simp)
        exact kont _ (va_up f i (some c)) (c :: r) (Or.inr ⟨h, k, v, nx, P, L, R, pv, rd, root, lo, hi, hT1, hseg, hsep, hnd, hperm, H⟩) ws_s (fun j hj => if_neg hj) (if_pos rfl) (fun b _ hbT _ => ws_n hbT)
      | some o =>
        rw [hoh] at kont
        refine Z.ifnullR ok dJ28_split_208 ?_
        refine Z.aload ok dJ28_split_211 rfl (by first | exact isRf.r _ | exact isRf.n | exact isRf.v _ | assumption) ?_
        refine Z.aload_n ok dJ28_split_213 rfl (by first | exact isRf.r _ | exact isRf.n | exact isRf.v _ | assumption) ?_
        refine Z.callV (kc' := kc) (ks' := ks) (ci := 9) (q := (RJ28, TJ28, 11)) (C := RJ28) ok (treeify_ct (y := c) (r := r) hT1 (fun a ha => ha) ws_s hTC hn hin (dat_all (Q := fun d => (nI n - 1) &&& d.1 = nI i) hperm hix) (if_pos rfl) hseg hsep hnd (dat_inj hperm hinj)) (hT1 c hcc) rfl rfl q1289 q1290 (Or.inl q1291) q54 q1292 nk_J28_treeify rfl (by decide) (by first | exact Nat.le_of_ble_eq_true rfl | simp [Value.category, cat_rf]) (by omega) (by omega) dJ28_split_214 rfl ZX.no (fun v w2 hr => ?_)
        obtain ⟨rfl, B', nx2, P2, L2, R2, pv2, rd2, root, lo, hi, f', p1, p2, p3, p4, p5, p6, p7, p8, p9⟩ := hr
        refine kont w2 f' B' (Or.inr ⟨h, k, v, nx2, P2, L2, R2, pv2, rd2, root, lo, hi, fun a ha => p2 a (p1.mem_iff.mp ha), p6, p7, p1.nodup_iff.mpr hnd, (p1.map _).trans hperm, p8⟩) p3 (fun j hj => (p4 j hj).trans (if_neg hj)) p5 (fun b hb hbT _ => ?_)
        rw [p9 b (fun h => h.elim hb hbT), ws_n hbT]
/-- the lists in the making -/
def SplS (w0 w : Wd) (B D r : List Nat) (h : Nat → Int32) (k v : Nat → Nat) (P L R : Nat → Option Nat) (rd : Nat → Int32) (pl ph : Nat → Bool) (nx : Nat → Option Nat) : Prop := ∃ nx' pv', TW w (fun a => a ∈ B) h k v nx' P L R pv' rd ∧ FrB (fun a => a ∈ B) w0 w ∧ seg nx' (D.filter pl) none ∧ sep pv' (D.filter pl) none ∧ seg nx' (D.filter ph) none ∧ sep pv' (D.filter ph) none ∧ ∀ a, a ∈ r → nx' a = nx a
theorem spl_push {nx' pv' : Nat → Option Nat} {D r : List Nat} {pl ph : Nat → Bool} {e : Nat} (hph : ∀ a, ph a = !pl a) (hnd : (D ++ e :: r).Nodup) (h1 : seg nx' (D.filter pl) none) (h2 : sep pv' (D.filter pl) none) (h3 : seg nx' (D.filter ph) none) (h4 : sep pv' (D.filter ph) none) (he : pl e = true) :
    ((D ++ [e]).filter pl = D.filter pl ++ [e]) ∧ ((D ++ [e]).filter ph = D.filter ph) ∧
    (D.filter pl = [] → seg (up1 nx' e none) (D.filter pl ++ [e]) none ∧ seg (up1 nx' e none) (D.filter ph) none ∧ ∀ a, a ∈ r → up1 nx' e none a = nx' a) ∧
    (∀ t, lst (D.filter pl) none = some t → t ∈ D ∧ seg (up1 (up1 nx' e none) t (some e)) (D.filter pl ++ [e]) none ∧ seg (up1 (up1 nx' e none) t (some e)) (D.filter ph) none ∧ ∀ a, a ∈ r → up1 (up1 nx' e none) t (some e) a = nx' a) ∧
    sep (up1 pv' e (lst (D.filter pl) none)) (D.filter pl ++ [e]) none ∧ sep (up1 pv' e (lst (D.filter pl) none)) (D.filter ph) none := by
  rw [List.nodup_append] at hnd
  obtain ⟨n1, n2, n3⟩ := hnd
  rw [List.nodup_cons] at n2
  have heD : e ∉ D := fun h => n3 e h e (by simp) rfl
  have heL : e ∉ D.filter pl := fun h => heD (List.mem_filter.mp h).1
  have heH : e ∉ D.filter ph := fun h => heD (List.mem_filter.mp h).1
  refine ⟨by rw [List.filter_append]; simp [he], by rw [List.filter_append]; simp [hph, he], ?_, ?_, sep_snoc h2 heL, sep_eq (fun a ha => up1_n (fun q => heH (by rw [← q]; exact ha))) h4⟩
  · intro e0
    rw [e0]
    exact ⟨⟨up1_s, trivial⟩, seg_eq (fun a ha => up1_n (fun q => heH (by rw [← q]; exact ha))) h3, fun a ha => up1_n (fun q => n2.1 (by rw [← q]; exact ha))⟩
  · intro t ht
    have hne : D.filter pl ≠ [] := fun q => by rw [q] at ht; cases ht
    obtain ⟨C0, t', e1, e2⟩ := lst_snoc hne
    rw [ht] at e2
    cases e2
    have htL : t ∈ D.filter pl := by rw [e1]; simp
    have htD := (List.mem_filter.mp htL).1
    have htp : pl t = true := (List.mem_filter.mp htL).2
    have hnd1 : (D.filter pl).Nodup := n1.filter _
    refine ⟨htD, ?_, ?_, ?_⟩
    · rw [e1] at h1 hnd1 heL ⊢
      exact seg_snoc h1 hnd1 heL
    · refine seg_eq (fun a ha => ?_) h3
      have : a ≠ t := fun q => by
        have := (List.mem_filter.mp ha).2
        rw [q, hph, htp] at this
        cases this
      rw [up1_n this, up1_n (fun q => heH (by rw [← q]; exact ha))]
    · intro a ha
      rw [up1_n (fun q => n3 t htD a (by simp [ha]) q.symm), up1_n (fun q => n2.1 (by rw [← q]; exact ha))]
theorem spl_loop {x : Cx} {w0 : Wd} {m T bt : Nat} {i1 : Int32} {l0 l5 : Value} {B : List Nat} {pl ph : Nat → Bool} {kc ks : Nat} (ok : OK g x RJ28 cJ28_split 14 4 none) (hpl : ∀ a, pl a = decide (h a &&& nI bt = 0)) (hph : ∀ a, ph a = !pl a) (hseg : seg nx B none) (hnd : B.Nodup)
    (kont : ∀ (w : Wd) (l13 : Option Value), SplS w0 w B B [] h k v P L R rd pl ph nx → Z g x 14 131 [some l0, some (.ref m), some (.ref T), some (.int i1), some (.int (nI bt)), some l5, some (va_rf (hd (B.filter pl) none)), some (va_rf (lst (B.filter pl) none)), some (va_rf (hd (B.filter ph) none)), some (va_rf (lst (B.filter ph) none)), some (.int (nI (B.filter pl).length)), some (.int (nI (B.filter ph).length)), some .null, l13] [] w kc ks) : ∀ (r D : List Nat) (w : Wd) (l13 : Option Value), B = D ++ r → SplS w0 w B D r h k v P L R rd pl ph nx → Z g x 14 25 [some l0, some (.ref m), some (.ref T), some (.int i1), some (.int (nI bt)), some l5, some (va_rf (hd (D.filter pl) none)), some (va_rf (lst (D.filter pl) none)), some (va_rf (hd (D.filter ph) none)), some (va_rf (lst (D.filter ph) none)), some (.int (nI (D.filter pl).length)), some (.int (nI (D.filter ph).length)), some (va_rf (hd r none)), l13] [] w kc ks := by
  intro r
  induction r with
  | nil =>
    intro D w l13 hD hS
    rw [List.append_nil] at hD
    subst hD
    refine Z.aload ok dJ28_split_25 rfl (by first | exact isRf.r _ | exact isRf.n | exact isRf.v _ | assumption) ?_
    refine Z.ifnullN (tgt := 131) ok dJ28_split_27 (by decide) ?_
    exact kont w l13 hS
  | cons e r ih =>
    intro D w l13 hD hS
    obtain ⟨nx', pv', hT, hB, s1, s2, s3, s4, s5⟩ := hS
    have te : (fun a => a ∈ B) e := by show e ∈ B; rw [hD]; simp
    have hx : nx' e = hd r none := by
      rw [s5 e (by simp)]
      rw [hD, seg_app] at hseg
      exact hseg.2.1
    have hr : ∀ a, hd r none = some a → ∃ fs t, w a = some (ob 9 fs, t) := by
      intro a ha
      cases r with
      | nil => cases ha
      | cons b r =>
        cases ha
        exact ⟨_, _, hT a (by show a ∈ B; rw [hD]; simp)⟩
    refine Z.aload ok dJ28_split_25 rfl (by first | exact isRf.r _ | exact isRf.n | exact isRf.v _ | assumption) ?_
    refine Z.ifnullR ok dJ28_split_27 ?_
    refine Z.aload ok dJ28_split_30 rfl (by first | exact isRf.r _ | exact isRf.n | exact isRf.v _ | assumption) ?_
    refine Z.get (ci := 9) (C := RJ28) (T := TJ28) (N := 11) ok (hT _ te) rfl in_J28 5 (by decide) q1275 (Or.inr q1276) (by rfl) dJ28_split_32 ?_
    rw [hx]
    refine Z.castT ok hr q1250 dJ28_split_35 ?_
    refine Z.astore ok dJ28_split_38 (by decide) (by first | exact isRf.r _ | exact isRf.n | exact isRf.v _ | assumption) ?_
    refine Z.aload ok dJ28_split_40 rfl (by first | exact isRf.r _ | exact isRf.n | exact isRf.v _ | assumption) ?_
    refine Z.null ok dJ28_split_42 ?_
    refine Z.put (ci := 9) (C := RJ28) (T := TJ28) (N := 11) (ty0 := tyJ28) ok (by exact hT _ te) (by first | decide | assumption) rfl in_J28 tyJ28_ok nmJ28 5 (by decide) q1275 (Or.inr q1276) rfl (okV_o (by first | exact isRf.r _ | exact isRf.n | exact isRf.v _ | assumption)) (by rfl) dJ28_split_43 ?_
    refine Z.tw_nx (none) hT hB te (fun w1 hT hB => ?_)
    refine Z.aload ok dJ28_split_46 rfl (by first | exact isRf.r _ | exact isRf.n | exact isRf.v _ | assumption) ?_
    refine Z.get (ci := 9) (C := RJ28) (T := TJ28) (N := 11) ok (hT _ te) rfl in_J28 2 (by decide) q1265 (Or.inr q1266) (by rfl) dJ28_split_48 ?_
    refine Z.iload ok dJ28_split_51 rfl ?_
    refine Z.iand ok dJ28_split_53 ?_
    rw [hD] at hnd
    cases hple : pl e with
    | true =>
      · obtain ⟨f1, f2, f3, f4, f5, f6⟩ := spl_push hph hnd s1 s2 s3 s4 hple
        have hz : h e &&& nI bt = 0 := by rw [hpl] at hple; exact of_decide_eq_true hple
        refine Z.if_ne (tgt := 92) ok dJ28_split_54 (by decide) (fun hc => absurd hz hc) (fun _ => ?_)
        have hl1 : ((D ++ [e]).filter pl).length = (D.filter pl).length + 1 := by rw [f1]; simp
        refine Z.aload ok dJ28_split_57 rfl (by first | exact isRf.r _ | exact isRf.n | exact isRf.v _ | assumption) ?_
        refine Z.aload ok dJ28_split_59 rfl (by first | exact isRf.r _ | exact isRf.n | exact isRf.v _ | assumption) ?_
        refine Z.dup_x1 ok dJ28_split_61 (by first | rfl | exact cat_rf _) (by first | rfl | exact cat_rf _) ?_
        refine Z.put (ci := 9) (C := RJ28) (T := TJ28) (N := 11) (ty0 := tyJ28) ok (by exact hT _ (by assumption)) (by first | decide | assumption) rfl in_J28 tyJ28_ok nmJ28 9 (by decide) q1330 (Or.inl rfl) rfl (okV_o (by first | exact isRf.r _ | exact isRf.n | exact isRf.v _ | assumption)) (by rfl) dJ28_split_62 ?_
        refine Z.tw_pv (lst (D.filter pl) none) hT hB (by assumption) (fun w2 hT hB => ?_)
        have fin : ∀ (w3 : Wd) (nx3 : Nat → Option Nat) (l7 : Option Value), TW w3 (fun a => a ∈ B) h k v nx3 P L R (up1 pv' e (lst (D.filter pl) none)) rd → FrB (fun a => a ∈ B) w0 w3 → seg nx3 (D.filter pl ++ [e]) none → seg nx3 (D.filter ph) none → (∀ a, a ∈ r → nx3 a = nx' a) → Z g x 14 82 [some l0, some (.ref m), some (.ref T), some (.int i1), some (.int (nI bt)), some l5, some (va_rf (hd ((D ++ [e]).filter pl) none)), l7, some (va_rf (hd (D.filter ph) none)), some (va_rf (lst (D.filter ph) none)), some (.int (nI (D.filter pl).length)), some (.int (nI (D.filter ph).length)), some (.ref e), some (va_rf (hd r none))] [] w3 kc ks := by
          intro w3 nx3 l7 hT hB g1 g2 g3
          refine Z.aload ok dJ28_split_82 rfl (by first | exact isRf.r _ | exact isRf.n | exact isRf.v _ | assumption) ?_
          refine Z.astore ok dJ28_split_84 (by decide) (by first | exact isRf.r _ | exact isRf.n | exact isRf.v _ | assumption) ?_
          refine Z.iinc ok dJ28_split_86 rfl rfl ?_
          refine Z.goto (tgt := 124) ok dJ28_split_89 (by decide) ?_
          refine Z.aload ok dJ28_split_124 rfl (by first | exact isRf.r _ | exact isRf.n | exact isRf.v _ | assumption) ?_
          refine Z.astore ok dJ28_split_126 (by decide) (by first | exact isRf.r _ | exact isRf.n | exact isRf.v _ | assumption) ?_
          refine Z.goto (tgt := 25) ok dJ28_split_128 (by decide) ?_
          have hk := ih (D ++ [e]) w3 (some (va_rf (hd r none))) (by rw [hD]; simp) ?_
          · rw [f2, hl1, ← nI_1, f1, lst_last] at hk
            rw [f1]
            exact hk
          · refine ⟨nx3, _, hT, hB, ?_⟩
            rw [f1, f2]
            exact ⟨g1, f5, g2, f6, fun a ha => (g3 a ha).trans (s5 a (by simp [ha]))⟩
        refine Z.ifnonnull (tgt := 75) ok dJ28_split_65 (by decide) (fun t hl => ?_) (fun hl => ?_)
        · obtain ⟨ht, g1, g2, g3⟩ := f4 t hl
          have tt : (fun a => a ∈ B) t := by show t ∈ B; rw [hD]; simp [ht]
          have hne : D.filter pl ≠ [] := fun q => by rw [q] at hl; cases hl
          have fin := fin
          rw [f1, hd_ne (e' := none) hne] at fin
          rw [hl]
          rw [hl] at fin hT
          refine Z.aload ok dJ28_split_75 rfl (by first | exact isRf.r _ | exact isRf.n | exact isRf.v _ | assumption) ?_
          refine Z.aload ok dJ28_split_77 rfl (by first | exact isRf.r _ | exact isRf.n | exact isRf.v _ | assumption) ?_
          refine Z.put (ci := 9) (C := RJ28) (T := TJ28) (N := 11) (ty0 := tyJ28) ok (by exact hT _ tt) (by first | decide | assumption) rfl in_J28 tyJ28_ok nmJ28 5 (by decide) q1275 (Or.inr q1276) rfl (okV_o (by first | exact isRf.r _ | exact isRf.n | exact isRf.v _ | assumption)) (by rfl) dJ28_split_79 ?_
          refine Z.tw_nx (some e) hT hB tt (fun w3 hT hB => ?_)
          exact fin w3 _ _ hT hB g1 g2 g3
        · have hne : D.filter pl = [] := by
            cases hc : D.filter pl with
            | nil => rfl
            | cons a q =>
              obtain ⟨_, t, _, e2⟩ := lst_snoc (C := D.filter pl) (by rw [hc]; simp)
              rw [hl] at e2
              cases e2
          obtain ⟨g1, g2, g3⟩ := f3 hne
          have fin := fin
          rw [f1, hne] at fin
          rw [hne] at hT ⊢
          refine Z.aload ok dJ28_split_68 rfl (by first | exact isRf.r _ | exact isRf.n | exact isRf.v _ | assumption) ?_
          refine Z.astore ok dJ28_split_70 (by decide) (by first | exact isRf.r _ | exact isRf.n | exact isRf.v _ | assumption) ?_
          refine Z.goto (tgt := 82) ok dJ28_split_72 (by decide) ?_
          rw [hne] at g1
          exact fin w2 _ _ hT hB g1 g2 g3
    | false =>
      · obtain ⟨f1, f2, f3, f4, f5, f6⟩ := spl_push (pl := ph) (ph := pl) (fun a => by rw [hph, Bool.not_not]) hnd s3 s4 s1 s2 (by rw [hph, hple]; rfl)
        have hz : ¬ h e &&& nI bt = 0 := by rw [hpl] at hple; exact of_decide_eq_false hple
        refine Z.if_ne (tgt := 92) ok dJ28_split_54 (by decide) (fun _ => ?_) (fun hc => absurd hc hz)
        have hl1 : ((D ++ [e]).filter ph).length = (D.filter ph).length + 1 := by rw [f1]; simp
        refine Z.aload ok dJ28_split_92 rfl (by first | exact isRf.r _ | exact isRf.n | exact isRf.v _ | assumption) ?_
        refine Z.aload ok dJ28_split_94 rfl (by first | exact isRf.r _ | exact isRf.n | exact isRf.v _ | assumption) ?_
        refine Z.dup_x1 ok dJ28_split_96 (by first | rfl | exact cat_rf _) (by first | rfl | exact cat_rf _) ?_
        refine Z.put (ci := 9) (C := RJ28) (T := TJ28) (N := 11) (ty0 := tyJ28) ok (by exact hT _ (by assumption)) (by first | decide | assumption) rfl in_J28 tyJ28_ok nmJ28 9 (by decide) q1330 (Or.inl rfl) rfl (okV_o (by first | exact isRf.r _ | exact isRf.n | exact isRf.v _ | assumption)) (by rfl) dJ28_split_97 ?_
        refine Z.tw_pv (lst (D.filter ph) none) hT hB (by assumption) (fun w2 hT hB => ?_)
        have fin : ∀ (w3 : Wd) (nx3 : Nat → Option Nat) (l7 : Option Value), TW w3 (fun a => a ∈ B) h k v nx3 P L R (up1 pv' e (lst (D.filter ph) none)) rd → FrB (fun a => a ∈ B) w0 w3 → seg nx3 (D.filter ph ++ [e]) none → seg nx3 (D.filter pl) none → (∀ a, a ∈ r → nx3 a = nx' a) → Z g x 14 117 [some l0, some (.ref m), some (.ref T), some (.int i1), some (.int (nI bt)), some l5, some (va_rf (hd (D.filter pl) none)), some (va_rf (lst (D.filter pl) none)), some (va_rf (hd ((D ++ [e]).filter ph) none)), l7, some (.int (nI (D.filter pl).length)), some (.int (nI (D.filter ph).length)), some (.ref e), some (va_rf (hd r none))] [] w3 kc ks := by
          intro w3 nx3 l7 hT hB g1 g2 g3
          refine Z.aload ok dJ28_split_117 rfl (by first | exact isRf.r _ | exact isRf.n | exact isRf.v _ | assumption) ?_
          refine Z.astore ok dJ28_split_119 (by decide) (by first | exact isRf.r _ | exact isRf.n | exact isRf.v _ | assumption) ?_
          refine Z.iinc ok dJ28_split_121 rfl rfl ?_
          refine Z.aload ok dJ28_split_124 rfl (by first | exact isRf.r _ | exact isRf.n | exact isRf.v _ | assumption) ?_
          refine Z.astore ok dJ28_split_126 (by decide) (by first | exact isRf.r _ | exact isRf.n | exact isRf.v _ | assumption) ?_
          refine Z.goto (tgt := 25) ok dJ28_split_128 (by decide) ?_
          have hk := ih (D ++ [e]) w3 (some (va_rf (hd r none))) (by rw [hD]; simp) ?_
          · rw [f2, hl1, ← nI_1, f1, lst_last] at hk
            rw [f1]
            exact hk
          · refine ⟨nx3, _, hT, hB, ?_⟩
            rw [f1, f2]
            exact ⟨g2, f6, g1, f5, fun a ha => (g3 a ha).trans (s5 a (by simp [ha]))⟩
        refine Z.ifnonnull (tgt := 110) ok dJ28_split_100 (by decide) (fun t hl => ?_) (fun hl => ?_)
        · obtain ⟨ht, g1, g2, g3⟩ := f4 t hl
          have tt : (fun a => a ∈ B) t := by show t ∈ B; rw [hD]; simp [ht]
          have hne : D.filter ph ≠ [] := fun q => by rw [q] at hl; cases hl
          have fin := fin
          rw [f1, hd_ne (e' := none) hne] at fin
          rw [hl]
          rw [hl] at fin hT
          refine Z.aload ok dJ28_split_110 rfl (by first | exact isRf.r _ | exact isRf.n | exact isRf.v _ | assumption) ?_
          refine Z.aload ok dJ28_split_112 rfl (by first | exact isRf.r _ | exact isRf.n | exact isRf.v _ | assumption) ?_
          refine Z.put (ci := 9) (C := RJ28) (T := TJ28) (N := 11) (ty0 := tyJ28) ok (by exact hT _ tt) (by first | decide | assumption) rfl in_J28 tyJ28_ok nmJ28 5 (by decide) q1275 (Or.inr q1276) rfl (okV_o (by first | exact isRf.r _ | exact isRf.n | exact isRf.v _ | assumption)) (by rfl) dJ28_split_114 ?_
          refine Z.tw_nx (some e) hT hB tt (fun w3 hT hB => ?_)
          exact fin w3 _ _ hT hB g1 g2 g3
        · have hne : D.filter ph = [] := by
            cases hc : D.filter ph with
            | nil => rfl
            | cons a q =>
              obtain ⟨_, t, _, e2⟩ := lst_snoc (C := D.filter ph) (by rw [hc]; simp)
              rw [hl] at e2
              cases e2
          obtain ⟨g1, g2, g3⟩ := f3 hne
          have fin := fin
          rw [f1, hne] at fin
          rw [hne] at hT ⊢
          refine Z.aload ok dJ28_split_103 rfl (by first | exact isRf.r _ | exact isRf.n | exact isRf.v _ | assumption) ?_
          refine Z.astore ok dJ28_split_105 (by decide) (by first | exact isRf.r _ | exact isRf.n | exact isRf.v _ | assumption) ?_
          refine Z.goto (tgt := 117) ok dJ28_split_107 (by decide) ?_
          rw [hne] at g1
          exact fin w2 _ _ hT hB g1 g2 g3
end SPLIT
