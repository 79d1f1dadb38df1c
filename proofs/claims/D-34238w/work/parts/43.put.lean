/-! ===== HASHMAP: put of a new key ===== -/
/-- the map with the entries E -/
def isHM (g : Gx) (w : Wd) (m : Nat) (E : List Dt) : Prop := (E.map (fun d => d.1)).Nodup ∧ ∃ (mc : Int32) (lf : UInt32), (E = [] ∧ w m = some (eM .null 0 mc 0 lf, 4)) ∨ ∃ T e f, 4 ≤ e ∧ (2 ^ e ≤ 64 ∨ 3 * 2 ^ e ≤ 8 * E.length) ∧ HT g w T e f E ∧ w m = some (eM (.ref T) (nI E.length) mc (nI (3 * 2 ^ (e - 2))) lf, 4) ∧ E.length ≤ 3 * 2 ^ (e - 2)
theorem HT.keepM {g : Gx} {w w' : Wd} {T e m : Nat} {f : Nat → Option Nat} {E : List Dt} {fs : List Value} (h : HT g w T e f E) (hm : w m = some (ob 7 fs, 4)) (hw : ∀ b, b ≠ m → w' b = w b) : HT g w' T e f E := by
  refine ⟨(hw T (fun q => ?_)).trans h.1, fun i hi => ?_⟩
  · have := h.1
    rw [q, hm] at this
    cases this
  · obtain ⟨C, c1, c2⟩ := h.2 i hi
    refine ⟨C, c1, c2.keep (fun b hb => hw b (fun q => ?_))⟩
    obtain ⟨d, -, hnd⟩ := c2.nd hb
    rw [q] at hnd
    rcases hnd with ⟨_, hnd⟩ | ⟨_, _, _, hnd⟩ <;> rw [hm] at hnd <;> cases hnd
/-- a new entry in its bin -/
theorem HT.ins {g : Gx} {w w' : Wd} {T e : Nat} {f f' : Nat → Option Nat} {E : List Dt} {d : Dt} {C C' : List Nat} (h : HT g w T e f E) (hC : Bin w C (E.filter (inBk e (ix e d.1)))) (hC' : Bin w' C' (d :: E.filter (inBk e (ix e d.1)))) (h1 : w' T = some (eN g (2 ^ e) f', 5)) (h2 : f' (ix e d.1) = hd C' none) (h3 : ∀ i, i ≠ ix e d.1 → f' i = f i) (hF : ∀ b, b ∉ C → b ≠ T → w b ≠ none → w' b = w b) : HT g w' T e f' (d :: E) := by
  refine ⟨h1, fun i hi => ?_⟩
  by_cases hid : i = ix e d.1
  · subst hid
    refine ⟨C', h2, ?_⟩
    rw [List.filter_cons, if_pos (by simp [inBk])]
    exact hC'
  · obtain ⟨D, c1, c2⟩ := h.2 i hi
    refine ⟨D, (h3 i hid).trans c1, ?_⟩
    rw [List.filter_cons, if_neg (by simp [inBk]; exact fun q => hid q.symm)]
    refine c2.keep (fun b hb => hF b (fun hbC => ?_) (fun q => c2.nT h.1 (by rw [← q]; exact hb)) (c2.some hb))
    obtain ⟨x, hx, hn⟩ := c2.nd hb
    obtain ⟨y, hy, hn'⟩ := hC.nd hbC
    have e1 : ix e x.1 = i := of_decide_eq_true (List.mem_filter.mp hx).2
    have e2 : ix e y.1 = ix e d.1 := of_decide_eq_true (List.mem_filter.mp hy).2
    rw [hn.uniq hn', e2] at e1
    exact hid e1.symm
/-- what such a step leaves of the rest -/
theorem frH_of_Bin {g : Gx} {w w' : Wd} {T n : Nat} {f : Nat → Option Nat} {C : List Nat} {ds : List Dt} (hC : Bin w C ds) (hT : w T = some (eN g n f, 5)) (hF : ∀ b, b ∉ C → b ≠ T → w b ≠ none → w' b = w b) : ∀ b x t, w b = some (x, t) → t ≠ 5 → w' b = some (x, t) := by
  intro b x t hb h5
  rw [hF b (fun hbC => ?_) (fun q => ?_) (by rw [hb]; exact Option.some_ne_none _)]
  · exact hb
  · obtain ⟨d, -, hn⟩ := hC.nd hbC
    rcases hn with ⟨_, hn⟩ | ⟨_, _, _, hn⟩ <;> rw [hb] at hn <;> cases hn <;> exact h5 rfl
  · rw [q, hT] at hb
    cases hb
    exact h5 rfl
section PUT
variable {g : Gx} {w w0 : Wd} {m T e : Nat} {mc : Int32} {lf : UInt32} {f : Nat → Option Nat} {E : List Dt}
theorem tfbinR_ct {hh sz : Int32} (he4 : 4 ≤ e) (he : 2 ^ e < 64) (hm : w m = some (eM (.ref T) sz mc (nI (3 * 2 ^ (e - 2))) lf, 4)) (hT : HT g w T e f E) (hinj : (E.map (fun d => d.1)).Nodup) (hlen : E.length < 2 ^ 30) : Ct g yJ4_treeifyBin cJ4_treeifyBin 9 none 6 (1+E.length) (2^(e+1)+4*E.length) [.ref m, .ref T, .int hh] w (fun o w' => o = none ∧ ∃ o', RzP g w m e sz mc lf E o' w') noX := by
  refine Ct.of RJ4 "treeifyBin" ⟨rfl, rfl⟩ (by decide +kernel) (by simp [Value.category] <;> exact cat_rf _) (Nat.le_of_ble_eq_true rfl) (fun x ok hQ hN => ?_)
  show Z g x 9 0 [some (.ref m), some (.ref T), some (.int hh), none, none, none, none, none, none] [] w (1+E.length) (2^(e+1)+4*E.length)
  have he6 : e < 6 := by
    refine Nat.lt_of_not_le (fun q => ?_)
    have := Nat.pow_le_pow_right (n := 2) (by omega) q
    omega
  refine Z.aload_n ok dJ4_treeifyBin_0 rfl (by first | exact isRf.r _ | exact isRf.n | exact isRf.v _ | assumption) ?_
  refine Z.ifnullR ok dJ4_treeifyBin_1 ?_
  refine Z.aload_n ok dJ4_treeifyBin_4 rfl (by first | exact isRf.r _ | exact isRf.n | exact isRf.v _ | assumption) ?_
  refine Z.alen (k0 := 5) ok hT.1 rfl dJ4_treeifyBin_5 ?_
  refine Z.dup ok dJ4_treeifyBin_6 (by first | rfl | exact cat_rf _) ?_
  refine Z.istore_n (i := 3) ok dJ4_treeifyBin_7 rfl (by decide) ?_
  refine Z.bipush (v := 64) ok dJ4_treeifyBin_8 (by decide) ?_
  refine Z.icmp_ge (tgt := 21) ok dJ4_treeifyBin_10 (by decide) (fun hc => absurd hc (show ¬ nI 64 ≤ nI (2 ^ e) from nI_ge he (by decide))) (fun _ => ?_)
  refine Z.aload_n ok dJ4_treeifyBin_13 rfl (by first | exact isRf.r _ | exact isRf.n | exact isRf.v _ | assumption) ?_
  refine Z.callV (kc' := 0) (ks' := 0) (ci := 7) (q := (RJ4, TJ4, 8)) (C := RJ4) ok (resize_ct he4 (by omega) hm hT hinj hlen) (by first | assumption | exact ws_s | exact hT _ (by assumption) | (rw [ws_n (by assumption)]; assumption)) rfl rfl q1237 q1238 (Or.inl q1239) q21 q1240 nk_J4_resize rfl (by decide) (by first | exact Nat.le_of_ble_eq_true rfl | simp [Value.category, cat_rf]) (by omega) (by omega) dJ4_treeifyBin_14 rfl ZX.no (fun v w1 hr => ?_)
  obtain ⟨T', f', rfl, h1, h2, h3⟩ := hr
  refine Z.pop ok dJ4_treeifyBin_17 (by first | rfl | exact cat_rf _) ?_
  refine Z.goto (tgt := 109) ok dJ4_treeifyBin_18 (by decide) ?_
  refine Z.vret ok hQ rfl dJ4_treeifyBin_109 ?_
  exact ⟨rfl, _, T', f', rfl, h1, h2, h3⟩
theorem afterIns_ct (_u : Unit) : Ct g yJ4_afterNodeInsertion cJ4_afterNodeInsertion 2 none 1 0 0 [.ref m, .int 1] w (PW none w) noX := by
  refine Ct.of RJ4 "afterNodeInsertion" ⟨rfl, rfl⟩ (by decide +kernel) (by simp [Value.category] <;> exact cat_rf _) (Nat.le_of_ble_eq_true rfl) (fun x ok hQ hN => ?_)
  show Z g x 2 0 [some (.ref m), some (.int 1)] [] w 0 0
  refine Z.vret ok hQ rfl dJ4_afterNodeInsertion_0 ?_
  exact ⟨rfl, rfl⟩
def PvP (g : Gx) (w : Wd) (m : Nat) (d : Dt) (E : List Dt) : Option Value → Wd → Prop := fun o w' => o = some .null ∧ isHM g w' m (d :: E) ∧ FrH w w'
theorem pv_end {x : Cx} {d : Dt} {l1 l2 l3 l4 l6 l7 l8 l9 l10 l11 l12 : Option Value} (ok : OK g x RJ4 cJ4_putVal 13 8 (some (.object "java/lang/Object"))) (hQ : EndQ g x (PvP g w0 m d E) noX) (he4 : 4 ≤ e) (he : e < 25) (hcap : 2 ^ e ≤ 64 ∨ 3 * 2 ^ e ≤ 8 * E.length) (hthr : E.length ≤ 3 * 2 ^ (e - 2)) (hT : HT g w T e f (d :: E)) (hm : w m = some (eM (.ref T) (nI E.length) mc (nI (3 * 2 ^ (e - 2))) lf, 4)) (hF : FrH w0 w) (hinj : ((d :: E).map (fun d => d.1)).Nodup) (hlen : E.length < 2 ^ 20) : Z g x 13 259 [some (.ref m), l1, l2, l3, l4, some (.int 1), l6, l7, l8, l9, l10, l11, l12] [] w (E.length + 2) (7 * E.length + 7) := by
  have t3 : 2 ^ 4 ≤ 2 ^ e := Nat.pow_le_pow_right (by omega) he4
  have tb : 2 ^ e ≤ 2 ^ 25 := Nat.pow_le_pow_right (by omega) (by omega)
  have tq2 : 2 ^ e = 2 ^ (e - 2) * 2 * 2 := by rw [← Nat.pow_succ, ← Nat.pow_succ]; congr 1; omega
  have ts : 2 ^ (e + 1) = 2 ^ e * 2 := Nat.pow_succ ..
  refine Z.aload_n ok dJ4_putVal_259 rfl (by first | exact isRf.r _ | exact isRf.n | exact isRf.v _ | assumption) ?_
  refine Z.dup ok dJ4_putVal_260 (by first | rfl | exact cat_rf _) ?_
  refine Z.get (ci := 7) (C := RJ4) (T := TJ4) (N := 8) ok (by first | assumption | exact ws_s | exact hT _ (by assumption) | (rw [ws_n (by assumption)]; assumption)) rfl in_J4 5 (by decide) q101 (Or.inl rfl) (by rfl) dJ4_putVal_261 ?_
  refine Z.iconst_1 ok dJ4_putVal_264 ?_
  refine Z.iadd ok dJ4_putVal_265 ?_
  refine Z.put (ci := 7) (C := RJ4) (T := TJ4) (N := 8) (ty0 := tyJ4) ok (by first | assumption | exact ws_s | exact hT _ (by assumption) | (rw [ws_n (by assumption)]; assumption)) (by first | decide | assumption) rfl in_J4 tyJ4_ok nmJ4 5 (by decide) q101 (Or.inl rfl) rfl (okV_i _) (by rfl) dJ4_putVal_266 ?_
  refine Z.aload_n ok dJ4_putVal_269 rfl (by first | exact isRf.r _ | exact isRf.n | exact isRf.v _ | assumption) ?_
  refine Z.dup ok dJ4_putVal_270 (by first | rfl | exact cat_rf _) ?_
  refine Z.get (ci := 7) (C := RJ4) (T := TJ4) (N := 8) ok (by first | assumption | exact ws_s | exact hT _ (by assumption) | (rw [ws_n (by assumption)]; assumption)) rfl in_J4 4 (by decide) q100 (Or.inl rfl) (by rfl) dJ4_putVal_271 ?_
  refine Z.iconst_1 ok dJ4_putVal_274 ?_
  refine Z.iadd ok dJ4_putVal_275 ?_
  refine Z.dup_x1 ok dJ4_putVal_276 (by first | rfl | exact cat_rf _) (by first | rfl | exact cat_rf _) ?_
  refine Z.put (ci := 7) (C := RJ4) (T := TJ4) (N := 8) (ty0 := tyJ4) ok (by first | assumption | exact ws_s | exact hT _ (by assumption) | (rw [ws_n (by assumption)]; assumption)) (by first | decide | assumption) rfl in_J4 tyJ4_ok nmJ4 4 (by decide) q100 (Or.inl rfl) rfl (okV_i _) (by rfl) dJ4_putVal_277 ?_
  refine Z.aload_n ok dJ4_putVal_280 rfl (by first | exact isRf.r _ | exact isRf.n | exact isRf.v _ | assumption) ?_
  refine Z.get (ci := 7) (C := RJ4) (T := TJ4) (N := 8) ok (by first | assumption | exact ws_s | exact hT _ (by assumption) | (rw [ws_n (by assumption)]; assumption)) rfl in_J4 6 (by decide) q102 (Or.inl rfl) (by rfl) dJ4_putVal_281 ?_
  rw [nI_1]
  have h1 : (wset (wset w m (ob 7 ([Value.null, .null, .ref T, .null, .int (nI E.length), .int mc, .int (nI (3 * 2 ^ (e - 2))), .float lf].set 5 (.int (mc + 1)))) 4) m (ob 7 (([Value.null, .null, .ref T, .null, .int (nI E.length), .int mc, .int (nI (3 * 2 ^ (e - 2))), .float lf].set 5 (.int (mc + 1))).set 4 (.int (nI (E.length + 1))))) 4) m = some (eM (.ref T) (nI (E.length + 1)) (mc + 1) (nI (3 * 2 ^ (e - 2))) lf, 4) := ws_s
  have h2 : ∀ b, b ≠ m → (wset (wset w m (ob 7 ([Value.null, .null, .ref T, .null, .int (nI E.length), .int mc, .int (nI (3 * 2 ^ (e - 2))), .float lf].set 5 (.int (mc + 1)))) 4) m (ob 7 (([Value.null, .null, .ref T, .null, .int (nI E.length), .int mc, .int (nI (3 * 2 ^ (e - 2))), .float lf].set 5 (.int (mc + 1))).set 4 (.int (nI (E.length + 1))))) 4) b = w b := fun b hb => (ws_n hb).trans (ws_n hb)
  generalize hw1 : (wset (wset w m (ob 7 ([Value.null, .null, .ref T, .null, .int (nI E.length), .int mc, .int (nI (3 * 2 ^ (e - 2))), .float lf].set 5 (.int (mc + 1)))) 4) m (ob 7 (([Value.null, .null, .ref T, .null, .int (nI E.length), .int mc, .int (nI (3 * 2 ^ (e - 2))), .float lf].set 5 (.int (mc + 1))).set 4 (.int (nI (E.length + 1))))) 4) = w1 at h1 h2
  have hT1 := hT.keepM hm h2
  have hF1 : FrH w0 w1 := hF.tr (fun b y t hb h4 _ => by
    rw [h2 b (fun q => by rw [q, hm] at hb; cases hb; exact h4 rfl)]
    exact hb)
  have fin : ∀ (w2 : Wd), isHM g w2 m (d :: E) → FrH w0 w2 → Z g x 13 292 [some (.ref m), l1, l2, l3, l4, some (.int 1), l6, l7, l8, l9, l10, l11, l12] [] w2 0 0 := by
    intro w2 hM hF2
    obtain ⟨-, mc2, lf2, hM2⟩ := id hM
    have hm2 : ∃ fs, w2 m = some (ob 7 fs, 4) := by
      rcases hM2 with ⟨-, h⟩ | ⟨_, _, _, -, -, -, h, -⟩ <;> exact ⟨_, h⟩
    obtain ⟨fs, hm2⟩ := hm2
    refine Z.aload_n ok dJ4_putVal_292 rfl (by first | exact isRf.r _ | exact isRf.n | exact isRf.v _ | assumption) ?_
    refine Z.iload ok dJ4_putVal_293 rfl ?_
    refine Z.callV (ci := 7) (q := (RJ4, TJ4, 8)) (C := RJ4) ok (afterIns_ct ()) hm2 rfl rfl q1365 q1366 (Or.inl q1367) q21 q1368 nk_J4_afterNodeInsertion rfl (by decide) (by first | exact Nat.le_of_ble_eq_true rfl | simp [Value.category, cat_rf]) (Nat.le_refl _) (Nat.le_refl _) dJ4_putVal_295 rfl ZX.no (fun v w3 hr => ?_)
    obtain ⟨rfl, rfl⟩ := hr
    refine Z.null ok dJ4_putVal_298 ?_
    refine Z.aret ok hQ (by first | exact Or.inl ⟨_, rfl⟩ | exact Or.inr ⟨_, rfl⟩) (by first | exact isRf.r _ | exact isRf.n | exact isRf.v _ | assumption) dJ4_putVal_299 ?_
    exact ⟨rfl, hM, hF2⟩
  by_cases hle : E.length + 1 ≤ 3 * 2 ^ (e - 2)
  · refine Z.icmp_le (tgt := 292) ok dJ4_putVal_284 (by decide) (fun _ => ?_) (fun hc => absurd (nI_le hle (by omega)) hc)
    refine Z.room (kc' := 0) (ks' := 0) (by omega) (by omega) ?_
    exact fin w1 ⟨hinj, mc + 1, lf, Or.inr ⟨T, e, f, he4, by simp; omega, hT1, h1, by simpa using hle⟩⟩ hF1
  · refine Z.icmp_le (tgt := 292) ok dJ4_putVal_284 (by decide) (fun hc => absurd hc (nI_ge (Nat.not_le.mp hle) (by omega))) (fun _ => ?_)
    refine Z.aload_n ok dJ4_putVal_287 rfl (by first | exact isRf.r _ | exact isRf.n | exact isRf.v _ | assumption) ?_
    refine Z.room (kc' := 0 + (1 + (d :: E).length)) (ks' := 0 + (2 ^ (e + 1) + 4 * (d :: E).length)) (by simp; omega) (by simp; omega) ?_
    refine Z.callV (kc' := 0) (ks' := 0) (ci := 7) (q := (RJ4, TJ4, 8)) (C := RJ4) ok (resize_ct (E := d :: E) he4 (by omega) h1 hT1 hinj (by simp; omega)) (by first | assumption | exact ws_s | exact hT _ (by assumption) | (rw [ws_n (by assumption)]; assumption)) rfl rfl q1237 q1238 (Or.inl q1239) q21 q1240 nk_J4_resize rfl (by decide) (by first | exact Nat.le_of_ble_eq_true rfl | simp [Value.category, cat_rf]) (by omega) (by omega) dJ4_putVal_288 rfl ZX.no (fun v w2 hr => ?_)
    obtain ⟨T', f', rfl, r1, r2, r3⟩ := hr
    refine Z.pop ok dJ4_putVal_291 (by first | rfl | exact cat_rf _) ?_
    have q1 : e + 1 - 2 = e - 1 := by omega
    have q2 : 2 ^ (e - 1) = 2 ^ (e - 2) * 2 := by rw [← Nat.pow_succ]; congr 1; omega
    exact fin w2 ⟨hinj, mc + 1, lf, Or.inr ⟨T', e + 1, f', by omega, by simp; omega, r1, by rw [q1]; exact r2, by rw [q1]; simp; omega⟩⟩ (hF1.tr r3)
end PUT
