/-! ===== TREE NODES: treeify ===== -/
theorem Z.castT {g : Gx} {x : Cx} {own : String} {cc : ByteArray} {nL lv : Nat} {ret : Option FieldType} {pc : Nat} {L : List (Option Value)} {st : List Value} {w : Wd} {kc ks index : Nat} {o : Option Nat} (ok : OK g x own cc nL lv ret) (hw : ∀ a, o = some a → ∃ fs t, w a = some (ob 9 fs, t)) (hlink : Cond.classLink own index "java/util/HashMap$TreeNode" ∈ lw_all) (hd : decode cc pc = .ok (.checkcast index, 3)) (kk : Z g x nL (pc + 3) L (va_rf o :: st) w kc ks) : Z g x nL pc L (va_rf o :: st) w kc ks := by
  cases o with
  | none => exact Z.castN ok hd kk
  | some a =>
    obtain ⟨fs, t, e⟩ := hw a rfl
    exact Z.castS (ci := 9) (q := (RJ28, TJ28, 11)) ok e rfl rfl hlink hd kk
theorem Tr.setS {S S' : Nat → Prop} {root : Nat} {h : Nat → Int} {P L R : Nat → Option Nat} {lo hi : Nat → Int} (H : Tr S root h P L R lo hi) (e : ∀ a, S a ↔ S' a) : Tr S' root h P L R lo hi := by
  have : S = S' := funext (fun a => propext (e a))
  rw [← this]
  exact H
theorem i32bd (a : Int32) : -2147483648 ≤ a.toInt ∧ a.toInt ≤ 2147483647 := by
  have := a.toBitVec.isLt
  have h1 := Int32.le_toInt a
  have h2 := Int32.toInt_lt a
  omega
section TFY
variable {g : Gx} {w0 : Wd} {S : Nat → Prop} {h : Nat → Int32} {k v : Nat → Nat} {nx pv : Nat → Option Nat}
/-- the way down to a place for y, its linking and the balance -/
theorem tfy_in {x : Cx} (ok : OK g x RJ28 cJ28_treeify 13 3 none) {S2 : Nat → Prop} {y T : Nat} {l0 l4 : Value} (hsub : ∀ a, S2 a → S a) (hy : ¬ S2 y) (sy : S y) (hne : ∀ a, S2 a → h a ≠ h y) {w : Wd} {P L R : Nat → Option Nat} {rd : Nat → Int32} {lo hi : Nat → Int} {root : Nat} (hT : TW w S h k v nx P L R pv rd) (hB : FrB S w0 w) (H : Tr S2 root (fun a => (h a).toInt) P L R lo hi) (hLy : L y = none) (hRy : R y = none)
    (kont : ∀ (w1 : Wd) (root : Nat) (P L R : Nat → Option Nat) (rd : Nat → Int32) (lo hi : Nat → Int) (l5 l6 l7 l8 l9 l10 l11 l12 : Option Value), TW w1 S h k v nx P L R pv rd → FrB S w0 w1 → Tr (fun a => a = y ∨ S2 a) root (fun a => (h a).toInt) P L R lo hi → Z g x 13 209 [some l0, some (.ref T), some (.ref root), some (.ref y), some l4, l5, l6, l7, l8, l9, l10, l11, l12] [] w1 0 0) : ∀ (n p : Nat) (l9 l10 l11 l12 : Option Value), S2 p → hi p - lo p ≤ (n : Int) → lo p < (h y).toInt → (h y).toInt < hi p → Z g x 13 64 [some l0, some (.ref T), some (.ref root), some (.ref y), some l4, some (.ref (k y)), some (.int (h y)), some .null, some (.ref p), l9, l10, l11, l12] [] w 0 0
  | 0, p, l9, l10, l11, l12, sp, hn, b1, b2 => by omega
  | n + 1, p, l9, l10, l11, l12, sp, hn, b1, b2 => by
    have tp := hsub p sp
    have op := H.ord p sp
    have hey := hne p sp
    have nyp : y ≠ p := fun e => hy (by rw [e]; exact sp)
    have hey2 : (h p).toInt ≠ (h y).toInt := fun e => hey (Int32.toInt_inj.mp e)
    have bal : ∀ (P L R : Nat → Option Nat) (w1 : Wd) (lo hi : Nat → Int) (l9 l10 l11 l12 : Option Value), TW w1 S h k v nx P L R pv rd → FrB S w0 w1 → Tr (fun a => a = y ∨ S2 a) root (fun a => (h a).toInt) P L R lo hi → Z g x 13 197 [some l0, some (.ref T), some (.ref root), some (.ref y), some l4, some (.ref (k y)), some (.int (h y)), some .null, some .null, l9, l10, l11, l12] [] w1 0 0 := by
      intro P L R w1 lo hi l9 l10 l11 l12 hT hB H1
      refine Z.aload_n ok dJ28_treeify_197 rfl (by first | exact isRf.r _ | exact isRf.n | exact isRf.v _ | assumption) ?_
      refine Z.aload_n ok dJ28_treeify_198 rfl (by first | exact isRf.r _ | exact isRf.n | exact isRf.v _ | assumption) ?_
      refine Z.callS ok (bal_ct hT (fun a ha => ha.elim (fun e => by rw [e]; exact sy) (hsub a)) H1 (Or.inl rfl)) q1293 q1294 q54 q1295 nk_J28_balanceInsertion rfl (by decide) (by first | exact Nat.le_of_ble_eq_true rfl | simp [Value.category, cat_rf]) (Nat.le_refl _) (Nat.le_refl _) dJ28_treeify_199 rfl ZX.no (fun v w2 hp => ?_)
      obtain ⟨root', P', L', R', rd', lo', hi', rfl, hT2, H2, hB2⟩ := hp
      refine Z.astore_n (i := 2) ok dJ28_treeify_202 rfl (by decide) (by first | exact isRf.r _ | exact isRf.n | exact isRf.v _ | assumption) ?_
      refine Z.goto (tgt := 209) ok dJ28_treeify_203 (by decide) ?_
      exact kont w2 root' P' L' R' rd' lo' hi' _ _ _ _ _ _ _ _ hT2 (hB.tr hB2) H2
    refine Z.aload ok dJ28_treeify_64 rfl (by first | exact isRf.r _ | exact isRf.n | exact isRf.v _ | assumption) ?_
    refine Z.get (ci := 9) (C := RJ28) (T := TJ28) (N := 11) ok (by first | assumption | exact ws_s | exact hT _ (by assumption) | (rw [ws_n (by assumption)]; assumption)) rfl in_J28 3 (by decide) q1269 (Or.inr q1270) (by rfl) dJ28_treeify_66 ?_
    refine Z.astore ok dJ28_treeify_69 (by decide) (by first | exact isRf.r _ | exact isRf.n | exact isRf.v _ | assumption) ?_
    refine Z.aload ok dJ28_treeify_71 rfl (by first | exact isRf.r _ | exact isRf.n | exact isRf.v _ | assumption) ?_
    refine Z.get (ci := 9) (C := RJ28) (T := TJ28) (N := 11) ok (by first | assumption | exact ws_s | exact hT _ (by assumption) | (rw [ws_n (by assumption)]; assumption)) rfl in_J28 2 (by decide) q1265 (Or.inr q1266) (by rfl) dJ28_treeify_73 ?_
    refine Z.dup ok dJ28_treeify_76 (by first | rfl | exact cat_rf _) ?_
    refine Z.istore ok dJ28_treeify_77 (by decide) ?_
    refine Z.iload ok dJ28_treeify_79 rfl ?_
    by_cases c1 : h p ≤ h y
    · refine Z.icmp_le (tgt := 90) ok dJ28_treeify_81 (by decide) (fun _ => ?_) (fun hc => absurd c1 hc)
      have c2 : (h p).toInt < (h y).toInt := by have := i32le.mp c1; omega
      refine Z.iload ok dJ28_treeify_90 rfl ?_
      refine Z.iload ok dJ28_treeify_92 rfl ?_
      refine Z.icmp_ge (tgt := 103) ok dJ28_treeify_94 (by decide) (fun hc => absurd hc (fun e => by have := i32le.mp e; omega)) (fun _ => ?_)
      refine Z.iconst_1 ok dJ28_treeify_97 ?_
      refine Z.istore ok dJ28_treeify_98 (by decide) ?_
      refine Z.goto (tgt := 143) ok dJ28_treeify_100 (by decide) ?_
      refine Z.aload ok dJ28_treeify_143 rfl (by first | exact isRf.r _ | exact isRf.n | exact isRf.v _ | assumption) ?_
      refine Z.astore ok dJ28_treeify_145 (by decide) (by first | exact isRf.r _ | exact isRf.n | exact isRf.v _ | assumption) ?_
      refine Z.iload ok dJ28_treeify_147 rfl ?_
      refine Z.if_gt (tgt := 160) ok dJ28_treeify_149 (by decide) (fun _ => ?_) (fun hc => absurd (by decide) hc)
      refine Z.aload ok dJ28_treeify_160 rfl (by first | exact isRf.r _ | exact isRf.n | exact isRf.v _ | assumption) ?_
      refine Z.get (ci := 9) (C := RJ28) (T := TJ28) (N := 11) ok (by first | assumption | exact ws_s | exact hT _ (by assumption) | (rw [ws_n (by assumption)]; assumption)) rfl in_J28 8 (by decide) q1329 (Or.inl rfl) (by rfl) dJ28_treeify_162 ?_
      refine Z.dup ok dJ28_treeify_165 (by first | rfl | exact cat_rf _) ?_
      refine Z.astore ok dJ28_treeify_166 (by decide) (by first | exact isRf.r _ | exact isRf.n | exact isRf.v _ | assumption) ?_
      refine Z.ifnonnull (tgt := 206) ok dJ28_treeify_168 (by decide) (fun b hc => ?_) (fun hc => ?_)
      · rw [hc]
        refine Z.goto (tgt := 64) ok dJ28_treeify_206 (by decide) ?_
        obtain ⟨d1, -, d3, d4⟩ := H.rg p b sp hc
        (try simp only [] at d3 d4 op)
        exact tfy_in ok hsub hy sy hne hT hB H hLy hRy kont n b _ _ _ _ d1 (by omega) (by omega) (by omega)
      · rw [hc]
        refine Z.aload_n ok dJ28_treeify_171 rfl (by first | exact isRf.r _ | exact isRf.n | exact isRf.v _ | assumption) ?_
        refine Z.aload ok dJ28_treeify_172 rfl (by first | exact isRf.r _ | exact isRf.n | exact isRf.v _ | assumption) ?_
        refine Z.put (ci := 9) (C := RJ28) (T := TJ28) (N := 11) (ty0 := tyJ28) ok (by first | assumption | exact ws_s | exact hT _ (by assumption) | (rw [ws_n (by assumption)]; assumption)) (by first | decide | assumption) rfl in_J28 tyJ28_ok nmJ28 6 (by decide) q1327 (Or.inl rfl) rfl (okV_o (by first | exact isRf.r _ | exact isRf.n | exact isRf.v _ | assumption)) (by rfl) dJ28_treeify_174 ?_
        refine Z.tw_P (some p) hT hB (by assumption) (fun w1 hT hB => ?_)
        refine Z.iload ok dJ28_treeify_177 rfl ?_
        refine Z.if_gt (tgt := 191) ok dJ28_treeify_179 (by decide) (fun _ => ?_) (fun hc => absurd (by decide) hc)
        refine Z.aload ok dJ28_treeify_191 rfl (by first | exact isRf.r _ | exact isRf.n | exact isRf.v _ | assumption) ?_
        refine Z.aload_n ok dJ28_treeify_193 rfl (by first | exact isRf.r _ | exact isRf.n | exact isRf.v _ | assumption) ?_
        refine Z.put (ci := 9) (C := RJ28) (T := TJ28) (N := 11) (ty0 := tyJ28) ok (by first | assumption | exact ws_s | exact hT _ (by assumption) | (rw [ws_n (by assumption)]; assumption)) (by first | decide | assumption) rfl in_J28 tyJ28_ok nmJ28 8 (by decide) q1329 (Or.inl rfl) rfl (okV_o (by first | exact isRf.r _ | exact isRf.n | exact isRf.v _ | assumption)) (by rfl) dJ28_treeify_194 ?_
        refine Z.tw_R (some y) hT hB (by assumption) (fun w2 hT hB => ?_)
        exact bal _ _ _ w2 _ _ _ _ _ _ hT hB (H.insR sp hy hc c2 b2 hLy hRy)
    · refine Z.icmp_le (tgt := 90) ok dJ28_treeify_81 (by decide) (fun hc => absurd hc c1) (fun _ => ?_)
      have c2 : (h y).toInt < (h p).toInt := Int.not_le.mp (fun e => c1 (i32le.mpr e))
      refine Z.iconst_m1 ok dJ28_treeify_84 ?_
      refine Z.istore ok dJ28_treeify_85 (by decide) ?_
      refine Z.goto (tgt := 143) ok dJ28_treeify_87 (by decide) ?_
      refine Z.aload ok dJ28_treeify_143 rfl (by first | exact isRf.r _ | exact isRf.n | exact isRf.v _ | assumption) ?_
      refine Z.astore ok dJ28_treeify_145 (by decide) (by first | exact isRf.r _ | exact isRf.n | exact isRf.v _ | assumption) ?_
      refine Z.iload ok dJ28_treeify_147 rfl ?_
      refine Z.if_gt (tgt := 160) ok dJ28_treeify_149 (by decide) (fun hc => absurd hc (by decide)) (fun _ => ?_)
      refine Z.aload ok dJ28_treeify_152 rfl (by first | exact isRf.r _ | exact isRf.n | exact isRf.v _ | assumption) ?_
      refine Z.get (ci := 9) (C := RJ28) (T := TJ28) (N := 11) ok (by first | assumption | exact ws_s | exact hT _ (by assumption) | (rw [ws_n (by assumption)]; assumption)) rfl in_J28 7 (by decide) q1328 (Or.inl rfl) (by rfl) dJ28_treeify_154 ?_
      refine Z.goto (tgt := 165) ok dJ28_treeify_157 (by decide) ?_
      refine Z.dup ok dJ28_treeify_165 (by first | rfl | exact cat_rf _) ?_
      refine Z.astore ok dJ28_treeify_166 (by decide) (by first | exact isRf.r _ | exact isRf.n | exact isRf.v _ | assumption) ?_
      refine Z.ifnonnull (tgt := 206) ok dJ28_treeify_168 (by decide) (fun b hc => ?_) (fun hc => ?_)
      · rw [hc]
        refine Z.goto (tgt := 64) ok dJ28_treeify_206 (by decide) ?_
        obtain ⟨d1, -, d3, d4⟩ := H.lf p b sp hc
        (try simp only [] at d3 d4 op)
        exact tfy_in ok hsub hy sy hne hT hB H hLy hRy kont n b _ _ _ _ d1 (by omega) (by omega) (by omega)
      · rw [hc]
        refine Z.aload_n ok dJ28_treeify_171 rfl (by first | exact isRf.r _ | exact isRf.n | exact isRf.v _ | assumption) ?_
        refine Z.aload ok dJ28_treeify_172 rfl (by first | exact isRf.r _ | exact isRf.n | exact isRf.v _ | assumption) ?_
        refine Z.put (ci := 9) (C := RJ28) (T := TJ28) (N := 11) (ty0 := tyJ28) ok (by first | assumption | exact ws_s | exact hT _ (by assumption) | (rw [ws_n (by assumption)]; assumption)) (by first | decide | assumption) rfl in_J28 tyJ28_ok nmJ28 6 (by decide) q1327 (Or.inl rfl) rfl (okV_o (by first | exact isRf.r _ | exact isRf.n | exact isRf.v _ | assumption)) (by rfl) dJ28_treeify_174 ?_
        refine Z.tw_P (some p) hT hB (by assumption) (fun w1 hT hB => ?_)
        refine Z.iload ok dJ28_treeify_177 rfl ?_
        refine Z.if_gt (tgt := 191) ok dJ28_treeify_179 (by decide) (fun hc => absurd hc (by decide)) (fun _ => ?_)
        refine Z.aload ok dJ28_treeify_182 rfl (by first | exact isRf.r _ | exact isRf.n | exact isRf.v _ | assumption) ?_
        refine Z.aload_n ok dJ28_treeify_184 rfl (by first | exact isRf.r _ | exact isRf.n | exact isRf.v _ | assumption) ?_
        refine Z.put (ci := 9) (C := RJ28) (T := TJ28) (N := 11) (ty0 := tyJ28) ok (by first | assumption | exact ws_s | exact hT _ (by assumption) | (rw [ws_n (by assumption)]; assumption)) (by first | decide | assumption) rfl in_J28 tyJ28_ok nmJ28 7 (by decide) q1328 (Or.inl rfl) rfl (okV_o (by first | exact isRf.r _ | exact isRf.n | exact isRf.v _ | assumption)) (by rfl) dJ28_treeify_185 ?_
        refine Z.tw_L (some y) hT hB (by assumption) (fun w2 hT hB => ?_)
        refine Z.goto (tgt := 197) ok dJ28_treeify_188 (by decide) ?_
        exact bal _ _ _ w2 _ _ _ _ _ _ hT hB (H.insL sp hy hc b1 c2 hLy hRy)
def TreeP (g : Gx) (w0 : Wd) (S : Nat → Prop) (h : Nat → Int32) (k v : Nat → Nat) (T n i : Nat) (f : Nat → Option Nat) (B : List Nat) : Option Value → Wd → Prop := fun o w' => o = none ∧ ∃ B' nx P L R pv rd root lo hi f', B'.Perm B ∧ TW w' S h k v nx P L R pv rd ∧ w' T = some (eN g n f', 5) ∧ (∀ j, j ≠ i → f' j = f j) ∧ f' i = hd B' none ∧ seg nx B' none ∧ sep pv B' none ∧ Tr (fun a => a ∈ B') root (fun a => (h a).toInt) P L R lo hi ∧ FrB (fun b => S b ∨ b = T) w0 w'
theorem tfy_loop {x : Cx} {T n i this : Nat} {f : Nat → Option Nat} {B : List Nat} (ok : OK g x RJ28 cJ28_treeify 13 3 none) (hQ : EndQ g x (TreeP g w0 S h k v T n i f B) noX) (hS : ∀ a, a ∈ B → S a) (hTab : w0 T = some (eN g n f, 5)) (hTS : ¬ S T) (hn : n < 2 ^ 30) (hin : i < n) (hix : ∀ a, a ∈ B → (nI n - 1) &&& h a = nI i) (hf : f i = hd B none) (hseg : seg nx B none) (hsep : sep pv B none) (hnd : B.Nodup) (hinj : ∀ a b, a ∈ B → b ∈ B → h a = h b → a = b) (hne : B ≠ []) : ∀ (r D : List Nat) (w : Wd) (P L R : Nat → Option Nat) (rd : Nat → Int32) (rt : Option Nat) (l4 l5 l6 l7 l8 l9 l10 l11 l12 : Option Value), B = D ++ r → TW w S h k v nx P L R pv rd → FrB S w0 w → ((D = [] ∧ rt = none) ∨ ∃ root lo hi, rt = some root ∧ Tr (fun a => a ∈ D) root (fun a => (h a).toInt) P L R lo hi) → Z g x 13 4 [some (.ref this), some (.ref T), some (va_rf rt), some (va_rf (hd r none)), l4, l5, l6, l7, l8, l9, l10, l11, l12] [] w 0 0
  | [], D, w, P, L, R, rd, rt, l4, l5, l6, l7, l8, l9, l10, l11, l12, hD, hT, hB, hrt => by
    rw [List.append_nil] at hD
    subst hD
    rcases hrt with ⟨e, -⟩ | ⟨root, lo, hi, rfl, H⟩
    · exact absurd e hne
    · have sroot := H.inS
      refine Z.aload_n ok dJ28_treeify_4 rfl (by first | exact isRf.r _ | exact isRf.n | exact isRf.v _ | assumption) ?_
      refine Z.ifnullN (tgt := 215) ok dJ28_treeify_5 (by decide) ?_
      refine Z.aload_n ok dJ28_treeify_215 rfl (by first | exact isRf.r _ | exact isRf.n | exact isRf.v _ | assumption) ?_
      refine Z.aload_n ok dJ28_treeify_216 rfl (by first | exact isRf.r _ | exact isRf.n | exact isRf.v _ | assumption) ?_
      refine Z.callS ok (mrtf_ct hT ((hB T hTS).trans hTab) hTS hS hn hin (hix root sroot) hf hseg hsep sroot hnd) q1302 q1303 q54 q1304 nk_J28_moveRootToFront rfl (by decide) (by first | exact Nat.le_of_ble_eq_true rfl | simp [Value.category, cat_rf]) (Nat.le_refl _) (Nat.le_refl _) dJ28_treeify_217 rfl ZX.no (fun v w1 hp => ?_)
      obtain ⟨rfl, B', nx', pv', f', p1, p2, p3, p4, p5, p6, p7, p8⟩ := hp
      refine Z.vret ok hQ rfl dJ28_treeify_220 ?_
      refine ⟨rfl, B', nx', P, L, R, pv', rd, root, lo, hi, f', p1, p2, p3, p4, p5, p6, p7, H.setS (fun a => (p1.mem_iff).symm), fun b hb => ?_⟩
      rw [p8 b hb, hB b (fun e => hb (Or.inl e))]
  | y :: r, D, w, P, L, R, rd, rt, l4, l5, l6, l7, l8, l9, l10, l11, l12, hD, hT, hB, hrt => by
    have hyB : y ∈ B := by rw [hD]; simp
    have sy := hS y hyB
    have hseg' := hseg
    rw [hD, seg_app] at hseg'
    have hnx : nx y = hd r none := hseg'.2.1
    have hyD : y ∉ D := by
      rw [hD, List.nodup_append] at hnd
      exact fun e => hnd.2.2 y e y (by simp) rfl
    have hDB : ∀ a, a ∈ D → a ∈ B := fun a ha => by rw [hD]; simp [ha]
    have hr : ∀ a, hd r none = some a → ∃ fs t, w a = some (ob 9 fs, t) := by
      intro a ha
      cases r with
      | nil => cases ha
      | cons b r =>
        cases ha
        exact ⟨_, _, hT a (hS a (by rw [hD]; simp))⟩
    refine Z.aload_n ok dJ28_treeify_4 rfl (by first | exact isRf.r _ | exact isRf.n | exact isRf.v _ | assumption) ?_
    refine Z.ifnullR ok dJ28_treeify_5 ?_
    refine Z.aload_n ok dJ28_treeify_8 rfl (by first | exact isRf.r _ | exact isRf.n | exact isRf.v _ | assumption) ?_
    refine Z.get (ci := 9) (C := RJ28) (T := TJ28) (N := 11) ok (by first | assumption | exact ws_s | exact hT _ (by assumption) | (rw [ws_n (by assumption)]; assumption)) rfl in_J28 5 (by decide) q1275 (Or.inr q1276) (by rfl) dJ28_treeify_9 ?_
    rw [hnx]
    refine Z.castT ok hr q1250 dJ28_treeify_12 ?_
    refine Z.astore ok dJ28_treeify_15 (by decide) (by first | exact isRf.r _ | exact isRf.n | exact isRf.v _ | assumption) ?_
    refine Z.aload_n ok dJ28_treeify_17 rfl (by first | exact isRf.r _ | exact isRf.n | exact isRf.v _ | assumption) ?_
    refine Z.aload_n ok dJ28_treeify_18 rfl (by first | exact isRf.r _ | exact isRf.n | exact isRf.v _ | assumption) ?_
    refine Z.null ok dJ28_treeify_19 ?_
    refine Z.dup_x1 ok dJ28_treeify_20 (by first | rfl | exact cat_rf _) (by first | rfl | exact cat_rf _) ?_
    refine Z.put (ci := 9) (C := RJ28) (T := TJ28) (N := 11) (ty0 := tyJ28) ok (by first | assumption | exact ws_s | exact hT _ (by assumption) | (rw [ws_n (by assumption)]; assumption)) (by first | decide | assumption) rfl in_J28 tyJ28_ok nmJ28 8 (by decide) q1329 (Or.inl rfl) rfl (okV_o (by first | exact isRf.r _ | exact isRf.n | exact isRf.v _ | assumption)) (by rfl) dJ28_treeify_21 ?_
    refine Z.tw_R (none) hT hB (by assumption) (fun w1 hT hB => ?_)
    refine Z.put (ci := 9) (C := RJ28) (T := TJ28) (N := 11) (ty0 := tyJ28) ok (by first | assumption | exact ws_s | exact hT _ (by assumption) | (rw [ws_n (by assumption)]; assumption)) (by first | decide | assumption) rfl in_J28 tyJ28_ok nmJ28 7 (by decide) q1328 (Or.inl rfl) rfl (okV_o (by first | exact isRf.r _ | exact isRf.n | exact isRf.v _ | assumption)) (by rfl) dJ28_treeify_24 ?_
    refine Z.tw_L (none) hT hB (by assumption) (fun w2 hT hB => ?_)
    refine Z.aload_n ok dJ28_treeify_27 rfl (by first | exact isRf.r _ | exact isRf.n | exact isRf.v _ | assumption) ?_
    rcases hrt with ⟨rfl, rfl⟩ | ⟨root, lo, hi, rfl, H⟩
    · refine Z.ifnonnullN ok dJ28_treeify_28 ?_
      refine Z.aload_n ok dJ28_treeify_31 rfl (by first | exact isRf.r _ | exact isRf.n | exact isRf.v _ | assumption) ?_
      refine Z.null ok dJ28_treeify_32 ?_
      refine Z.put (ci := 9) (C := RJ28) (T := TJ28) (N := 11) (ty0 := tyJ28) ok (by first | assumption | exact ws_s | exact hT _ (by assumption) | (rw [ws_n (by assumption)]; assumption)) (by first | decide | assumption) rfl in_J28 tyJ28_ok nmJ28 6 (by decide) q1327 (Or.inl rfl) rfl (okV_o (by first | exact isRf.r _ | exact isRf.n | exact isRf.v _ | assumption)) (by rfl) dJ28_treeify_33 ?_
      refine Z.tw_P (none) hT hB (by assumption) (fun w3 hT hB => ?_)
      refine Z.aload_n ok dJ28_treeify_36 rfl (by first | exact isRf.r _ | exact isRf.n | exact isRf.v _ | assumption) ?_
      refine Z.iconst_0 ok dJ28_treeify_37 ?_
      refine Z.put (ci := 9) (C := RJ28) (T := TJ28) (N := 11) (ty0 := tyJ28) ok (by first | assumption | exact ws_s | exact hT _ (by assumption) | (rw [ws_n (by assumption)]; assumption)) (by first | decide | assumption) rfl in_J28 tyJ28_ok nmJ28 10 (by decide) q1332 (Or.inl rfl) rfl (by first | exact okV_z0 | exact okV_z1) (by rfl) dJ28_treeify_38 ?_
      refine Z.tw_rd (0) hT hB (by assumption) (fun w4 hT hB => ?_)
      refine Z.aload_n ok dJ28_treeify_41 rfl (by first | exact isRf.r _ | exact isRf.n | exact isRf.v _ | assumption) ?_
      refine Z.astore_n (i := 2) ok dJ28_treeify_42 rfl (by decide) (by first | exact isRf.r _ | exact isRf.n | exact isRf.v _ | assumption) ?_
      refine Z.goto (tgt := 209) ok dJ28_treeify_43 (by decide) ?_
      refine Z.aload ok dJ28_treeify_209 rfl (by first | exact isRf.r _ | exact isRf.n | exact isRf.v _ | assumption) ?_
      refine Z.astore_n (i := 3) ok dJ28_treeify_211 rfl (by decide) (by first | exact isRf.r _ | exact isRf.n | exact isRf.v _ | assumption) ?_
      refine Z.goto (tgt := 4) ok dJ28_treeify_212 (by decide) ?_
      have hb := i32bd (h y)
      refine tfy_loop ok hQ hS hTab hTS hn hin hix hf hseg hsep hnd hinj hne r [y] w4 _ _ _ _ (some y) _ _ _ _ _ _ _ _ _ (by rw [hD]; rfl) hT hB (Or.inr ⟨y, _, _, rfl, (Tr.one (x := y) (by (try simp only []); omega) up1_s up1_s up1_s).setS (fun a => by simp)⟩)
    · refine Z.ifnonnullR (tgt := 46) ok dJ28_treeify_28 (by decide) ?_
      refine Z.aload_n ok dJ28_treeify_46 rfl (by first | exact isRf.r _ | exact isRf.n | exact isRf.v _ | assumption) ?_
      refine Z.get (ci := 9) (C := RJ28) (T := TJ28) (N := 11) ok (by first | assumption | exact ws_s | exact hT _ (by assumption) | (rw [ws_n (by assumption)]; assumption)) rfl in_J28 3 (by decide) q1269 (Or.inr q1270) (by rfl) dJ28_treeify_47 ?_
      refine Z.astore ok dJ28_treeify_50 (by decide) (by first | exact isRf.r _ | exact isRf.n | exact isRf.v _ | assumption) ?_
      refine Z.aload_n ok dJ28_treeify_52 rfl (by first | exact isRf.r _ | exact isRf.n | exact isRf.v _ | assumption) ?_
      refine Z.get (ci := 9) (C := RJ28) (T := TJ28) (N := 11) ok (by first | assumption | exact ws_s | exact hT _ (by assumption) | (rw [ws_n (by assumption)]; assumption)) rfl in_J28 2 (by decide) q1265 (Or.inr q1266) (by rfl) dJ28_treeify_53 ?_
      refine Z.istore ok dJ28_treeify_56 (by decide) ?_
      refine Z.null ok dJ28_treeify_58 ?_
      refine Z.astore ok dJ28_treeify_59 (by decide) (by first | exact isRf.r _ | exact isRf.n | exact isRf.v _ | assumption) ?_
      refine Z.aload_n ok dJ28_treeify_61 rfl (by first | exact isRf.r _ | exact isRf.n | exact isRf.v _ | assumption) ?_
      refine Z.astore ok dJ28_treeify_62 (by decide) (by first | exact isRf.r _ | exact isRf.n | exact isRf.v _ | assumption) ?_
      have H1 := H.congr (h' := fun a => (h a).toInt) (P' := P) (L' := up1 L y none) (R' := up1 R y none) (fun _ _ => rfl) (fun _ _ => rfl) (fun a ha => up1_n (fun e => hyD (by rw [← e]; exact ha))) (fun a ha => up1_n (fun e => hyD (by rw [← e]; exact ha)))
      have o0 := H.rlo
      have o1 := H.rhi
      have hb := i32bd (h y)
      refine tfy_in ok (fun a ha => hS a (hDB a ha)) hyD sy (fun a ha e => hyD (by rw [← hinj a y (hDB a ha) hyB e]; exact ha)) hT hB H1 up1_s up1_s ?_ (hi root - lo root).toNat root _ _ _ _ H.inS (by omega) (by omega) (by omega)
      intro w3 root' P' L' R' rd' lo' hi' l5 l6 l7 l8 l9 l10 l11 l12 hT3 hB3 H3
      refine Z.aload ok dJ28_treeify_209 rfl (by first | exact isRf.r _ | exact isRf.n | exact isRf.v _ | assumption) ?_
      refine Z.astore_n (i := 3) ok dJ28_treeify_211 rfl (by decide) (by first | exact isRf.r _ | exact isRf.n | exact isRf.v _ | assumption) ?_
      refine Z.goto (tgt := 4) ok dJ28_treeify_212 (by decide) ?_
      exact tfy_loop ok hQ hS hTab hTS hn hin hix hf hseg hsep hnd hinj hne r (D ++ [y]) w3 _ _ _ _ (some root') _ _ _ _ _ _ _ _ _ (by rw [hD]; simp) hT3 hB3 (Or.inr ⟨root', _, _, rfl, H3.setS (fun a => by simp [or_comm])⟩)
theorem treeify_ct {w : Wd} {P L R : Nat → Option Nat} {rd : Nat → Int32} {T n i y : Nat} {f : Nat → Option Nat} {r : List Nat} (hT : TW w S h k v nx P L R pv rd) (hS : ∀ a, a ∈ y :: r → S a) (hTab : w T = some (eN g n f, 5)) (hTS : ¬ S T) (hn : n < 2 ^ 30) (hin : i < n) (hix : ∀ a, a ∈ y :: r → (nI n - 1) &&& h a = nI i) (hf : f i = some y) (hseg : seg nx (y :: r) none) (hsep : sep pv (y :: r) none) (hnd : (y :: r).Nodup) (hinj : ∀ a b, a ∈ y :: r → b ∈ y :: r → h a = h b → a = b) : Ct g yJ28_treeify cJ28_treeify 13 none 3 0 0 [.ref y, .ref T] w (TreeP g w S h k v T n i f (y :: r)) noX := by
  refine Ct.of RJ28 "treeify" ⟨rfl, rfl⟩ (by decide +kernel) (by simp [Value.category]) (Nat.le_of_ble_eq_true rfl) (fun x ok hQ hN => ?_)
  show Z g x 13 0 [some (.ref y), some (.ref T), none, none, none, none, none, none, none, none, none, none, none] [] w 0 0
  refine Z.null ok dJ28_treeify_0 ?_
  refine Z.astore_n (i := 2) ok dJ28_treeify_1 rfl (by decide) (by first | exact isRf.r _ | exact isRf.n | exact isRf.v _ | assumption) ?_
  refine Z.aload_n ok dJ28_treeify_2 rfl (by first | exact isRf.r _ | exact isRf.n | exact isRf.v _ | assumption) ?_
  refine Z.astore_n (i := 3) ok dJ28_treeify_3 rfl (by decide) (by first | exact isRf.r _ | exact isRf.n | exact isRf.v _ | assumption) ?_
  exact tfy_loop ok hQ hS hTab hTS hn hin hix hf hseg hsep hnd hinj (by simp) (y :: r) [] w P L R rd none _ _ _ _ _ _ _ _ _ rfl hT FrB.rf (Or.inl ⟨rfl, rfl⟩)
end TFY
