/-! ===== HASHMAP: resize, its contracts ===== -/
abbrev eM (tb : Value) (sz mc th : Int32) (lf : UInt32) : va_E := ob 7 [.null, .null, tb, .null, .int sz, .int mc, .int th, .float lf]
theorem RZ.done {g : Gx} {w0 w : Wd} {m T T2 e : Nat} {fsm : List Value} {f : Nat → Option Nat} {E : List Dt} (h : RZ g w0 w m T T2 e fsm f E (2 ^ e)) : ∃ fn, HT g w T2 (e + 1) fn E ∧ w m = some (ob 7 fsm, 4) ∧ FrH w0 w := by
  obtain ⟨-, h1, -, ⟨fn, h4, -, h6⟩, -, h8⟩ := h
  refine ⟨fn, ⟨h4, fun i hi => ?_⟩, h1, h8⟩
  have ts : 2 ^ (e + 1) = 2 ^ e + 2 ^ e := by rw [Nat.pow_succ]; omega
  by_cases hlt : i < 2 ^ e
  · exact (h6 i hlt).1
  · have := (h6 (i - 2 ^ e) (by omega)).2
    rw [show i - 2 ^ e + 2 ^ e = i by omega] at this
    exact this
section RZ3
variable {g : Gx} {w : Wd} {m T e : Nat} {sz mc : Int32} {lf : UInt32} {f : Nat → Option Nat} {E : List Dt}
def RzP (g : Gx) (w : Wd) (m e : Nat) (sz mc : Int32) (lf : UInt32) (E : List Dt) : Option Value → Wd → Prop := fun o w' => ∃ T' f', o = some (.ref T') ∧ HT g w' T' (e + 1) f' E ∧ w' m = some (eM (.ref T') sz mc (nI (3 * 2 ^ (e - 1))) lf, 4) ∧ FrH w w'
theorem rz_loop {x : Cx} {T2 : Nat} {l3 l5 : Value} (ok : OK g x RJ4 cJ4_resize 14 5 (some (.array (.object "java/util/HashMap$Node")))) (hQ : EndQ g x (RzP g w m e sz mc lf E) noX) (he : e < 26) (hinj : (E.map (fun d => d.1)).Nodup) (hlen : E.length < 2 ^ 30) : ∀ (n j : Nat) (w1 : Wd) (l8 l9 l10 l11 l12 l13 : Option Value), j + n = 2 ^ e → RZ g w w1 m T T2 e [.null, .null, .ref T2, .null, .int sz, .int mc, .int (nI (3 * 2 ^ (e - 1))), .float lf] f E j → Z g x 14 151 [some (.ref m), some (.ref T), some (.int (nI (2 ^ e))), some l3, some (.int (nI (2 ^ (e + 1)))), some l5, some (.ref T2), some (.int (nI j)), l8, l9, l10, l11, l12, l13] [] w1 (cntB e j E) (4 * cntB e j E)
  | 0, j, w1, l8, l9, l10, l11, l12, l13, hj, h => by
    have t1 := two_lt (e := e) (by omega)
    obtain rfl : j = 2 ^ e := by omega
    obtain ⟨fn, h1, h2, h3⟩ := h.done
    refine Z.iload ok dJ4_resize_151 rfl ?_
    refine Z.iload_n ok dJ4_resize_153 rfl ?_
    refine Z.icmp_ge (tgt := 353) ok dJ4_resize_154 (by decide) (fun _ => ?_) (fun hc => absurd (nI_le (Nat.le_refl _) (by omega)) hc)
    refine Z.aload ok dJ4_resize_353 rfl (by first | exact isRf.r _ | exact isRf.n | exact isRf.v _ | assumption) ?_
    refine Z.aret ok hQ (by first | exact Or.inl ⟨_, rfl⟩ | exact Or.inr ⟨_, rfl⟩) (by first | exact isRf.r _ | exact isRf.n | exact isRf.v _ | assumption) dJ4_resize_355 ?_
    exact ⟨T2, fn, rfl, h1, h2, h3⟩
  | n + 1, j, w1, l8, l9, l10, l11, l12, l13, hj, h => by
    have t1 := two_lt (e := e) (by omega)
    refine Z.iload ok dJ4_resize_151 rfl ?_
    refine Z.iload_n ok dJ4_resize_153 rfl ?_
    refine Z.icmp_ge (tgt := 353) ok dJ4_resize_154 (by decide) (fun hc => absurd hc (nI_ge (by omega) (by omega))) (fun _ => ?_)
    have hcs := cnt_step e j E
    refine Z.room (kc' := cntB e (j + 1) E + (E.filter (inBk e j)).length) (ks' := 4 * cntB e (j + 1) E + 4 * (E.filter (inBk e j)).length) (by omega) (by omega) ?_
    refine rz_body ok (by omega) (by omega) hinj hlen h (fun w' l8 l9 l10 l11 l12 l13 h' => ?_)
    refine Z.iinc ok dJ4_resize_347 rfl rfl ?_
    refine Z.goto (tgt := 151) ok dJ4_resize_350 (by decide) ?_
    have e3 : nI j + Int32.ofInt 1 = nI (j + 1) := nI_1 j
    have hk := rz_loop (l3 := l3) (l5 := l5) ok hQ he hinj hlen n (j + 1) w' l8 l9 l10 l11 l12 l13 (by omega) h'
    rw [← e3] at hk
    exact hk
theorem resize_ct (he4 : 4 ≤ e) (he : e < 26) (hm : w m = some (eM (.ref T) sz mc (nI (3 * 2 ^ (e - 2))) lf, 4)) (hT : HT g w T e f E) (hinj : (E.map (fun d => d.1)).Nodup) (hlen : E.length < 2 ^ 30) : Ct g yJ4_resize cJ4_resize 14 (some (.array (.object "java/util/HashMap$Node"))) 5 (1+E.length) (2^(e+1)+4*E.length) [.ref m] w (RzP g w m e sz mc lf E) noX := by
  refine Ct.of RJ4 "resize" ⟨rfl, rfl⟩ (by decide +kernel) (by simp [Value.category] <;> exact cat_rf _) (Nat.le_of_ble_eq_true rfl) (fun x ok hQ hN => ?_)
  show Z g x 14 0 [some (.ref m), none, none, none, none, none, none, none, none, none, none, none, none, none] [] w (1+E.length) (2^(e+1)+4*E.length)
  obtain ⟨hT1, hT2⟩ := hT
  have t1 := two_lt (e := e) (by omega)
  have t2 := two_lt (e := e + 1) (by omega)
  have t3 : 2 ^ 4 ≤ 2 ^ e := Nat.pow_le_pow_right (by omega) he4
  have ts : 2 ^ (e + 1) = 2 ^ e * 2 := Nat.pow_succ ..
  have tq : 2 ^ (e - 1) = 2 ^ (e - 2) * 2 := by rw [← Nat.pow_succ]; congr 1; omega
  have tq2 : 2 ^ e = 2 ^ (e - 2) * 2 * 2 := by rw [← Nat.pow_succ, ← Nat.pow_succ]; congr 1; omega
  have tb : 2 ^ (e + 1) ≤ 2 ^ 26 := Nat.pow_le_pow_right (by omega) (by omega)
  refine Z.aload_n ok dJ4_resize_0 rfl (by first | exact isRf.r _ | exact isRf.n | exact isRf.v _ | assumption) ?_
  refine Z.get (ci := 7) (C := RJ4) (T := TJ4) (N := 8) ok (by first | assumption | exact ws_s | exact hT _ (by assumption) | (rw [ws_n (by assumption)]; assumption)) rfl in_J4 2 (by decide) q99 (Or.inl rfl) (by rfl) dJ4_resize_1 ?_
  refine Z.astore_n (i := 1) ok dJ4_resize_4 rfl (by decide) (by first | exact isRf.r _ | exact isRf.n | exact isRf.v _ | assumption) ?_
  refine Z.aload_n ok dJ4_resize_5 rfl (by first | exact isRf.r _ | exact isRf.n | exact isRf.v _ | assumption) ?_
  refine Z.ifnonnullR (tgt := 13) ok dJ4_resize_6 (by decide) ?_
  refine Z.aload_n ok dJ4_resize_13 rfl (by first | exact isRf.r _ | exact isRf.n | exact isRf.v _ | assumption) ?_
  refine Z.alen (k0 := 5) ok hT1 rfl dJ4_resize_14 ?_
  refine Z.istore_n (i := 2) ok dJ4_resize_15 rfl (by decide) ?_
  refine Z.aload_n ok dJ4_resize_16 rfl (by first | exact isRf.r _ | exact isRf.n | exact isRf.v _ | assumption) ?_
  refine Z.get (ci := 7) (C := RJ4) (T := TJ4) (N := 8) ok (by first | assumption | exact ws_s | exact hT _ (by assumption) | (rw [ws_n (by assumption)]; assumption)) rfl in_J4 6 (by decide) q102 (Or.inl rfl) (by rfl) dJ4_resize_17 ?_
  refine Z.istore_n (i := 3) ok dJ4_resize_20 rfl (by decide) ?_
  refine Z.iconst_0 ok dJ4_resize_21 ?_
  refine Z.istore ok dJ4_resize_22 (by decide) ?_
  refine Z.iload_n ok dJ4_resize_24 rfl ?_
  refine Z.if_le (tgt := 67) ok dJ4_resize_25 (by decide) (fun hc => absurd hc (nI_nle (by omega) (by omega))) (fun _ => ?_)
  refine Z.iload_n ok dJ4_resize_28 rfl ?_
  refine Z.ldc ok q1241 dJ4_resize_29 ?_
  refine Z.icmp_lt (tgt := 42) ok dJ4_resize_31 (by decide) (fun _ => ?_) (fun hc => absurd (show nI (2 ^ e) < nI 1073741824 from nI_lt (by omega) (by decide)) hc)
  refine Z.iload_n ok dJ4_resize_42 rfl ?_
  refine Z.iconst_1 ok dJ4_resize_43 ?_
  refine Z.ishl (v := nI (2 ^ (e + 1))) ok dJ4_resize_44 (by rw [ts]; exact pk_shlN _ 1 (by decide) (by omega)) ?_
  refine Z.dup ok dJ4_resize_45 (by first | rfl | exact cat_rf _) ?_
  refine Z.istore ok dJ4_resize_46 (by decide) ?_
  refine Z.ldc ok q1241 dJ4_resize_48 ?_
  refine Z.icmp_ge (tgt := 85) ok dJ4_resize_50 (by decide) (fun hc => absurd hc (show ¬ nI 1073741824 ≤ nI (2 ^ (e + 1)) from nI_ge (by omega) (by decide))) (fun _ => ?_)
  refine Z.iload_n ok dJ4_resize_53 rfl ?_
  refine Z.bipush (v := 16) ok dJ4_resize_54 (by decide) ?_
  refine Z.icmp_lt (tgt := 85) ok dJ4_resize_56 (by decide) (fun hc => absurd hc (show ¬ nI (2 ^ e) < nI 16 from nI_nlt (by omega) (by omega))) (fun _ => ?_)
  refine Z.iload_n ok dJ4_resize_59 rfl ?_
  refine Z.iconst_1 ok dJ4_resize_60 ?_
  refine Z.ishl (v := nI (3 * 2 ^ (e - 1))) ok dJ4_resize_61 (by rw [tq, ← Nat.mul_assoc]; exact pk_shlN _ 1 (by decide) (by omega)) ?_
  refine Z.istore ok dJ4_resize_62 (by decide) ?_
  refine Z.goto (tgt := 85) ok dJ4_resize_64 (by decide) ?_
  refine Z.iload ok dJ4_resize_85 rfl ?_
  refine Z.if_ne (tgt := 125) ok dJ4_resize_87 (by decide) (fun _ => ?_) (fun hc => absurd hc (nI_ne0 (by omega) (by omega)))
  refine Z.aload_n ok dJ4_resize_125 rfl (by first | exact isRf.r _ | exact isRf.n | exact isRf.v _ | assumption) ?_
  refine Z.iload ok dJ4_resize_126 rfl ?_
  refine Z.put (ci := 7) (C := RJ4) (T := TJ4) (N := 8) (ty0 := tyJ4) ok (by first | assumption | exact ws_s | exact hT _ (by assumption) | (rw [ws_n (by assumption)]; assumption)) (by first | decide | assumption) rfl in_J4 tyJ4_ok nmJ4 6 (by decide) q102 (Or.inl rfl) rfl (okV_i _) (by rfl) dJ4_resize_128 ?_
  refine Z.iload ok dJ4_resize_131 rfl ?_
  have hW : ∀ b, b ≠ m → wset w m (ob 7 ([Value.null, .null, .ref T, .null, .int sz, .int mc, .int (nI (3 * 2 ^ (e - 2))), .float lf].set 6 (.int (nI (3 * 2 ^ (e - 1)))))) 4 b = w b := fun b hb => ws_n hb
  have hW2 : wset w m (ob 7 ([Value.null, .null, .ref T, .null, .int sz, .int mc, .int (nI (3 * 2 ^ (e - 2))), .float lf].set 6 (.int (nI (3 * 2 ^ (e - 1)))))) 4 m = some (eM (.ref T) sz mc (nI (3 * 2 ^ (e - 1))) lf, 4) := ws_s
  obtain ⟨w1, hw1⟩ : ∃ w1, w1 = wset w m (ob 7 ([Value.null, .null, .ref T, .null, .int sz, .int mc, .int (nI (3 * 2 ^ (e - 2))), .float lf].set 6 (.int (nI (3 * 2 ^ (e - 1)))))) 4 := ⟨_, rfl⟩
  rw [← hw1] at hW hW2
  refine Z.cw (w' := w1) hw1 ?_
  refine Z.newN (N := 2 ^ (e + 1)) (kc' := E.length) (ks' := 4 * E.length) 5 ok q1244 q1245 (nI_pos (by omega)) (nI_clamp (by omega)) (by omega) (by omega) (by omega) dJ4_resize_133 (fun T2 hT2n hT2A => ?_)
  have hTm : T ≠ m := fun q => by rw [q, hm] at hT1; cases hT1
  have hT2m : T2 ≠ m := fun q => by rw [q, hW2] at hT2n; cases hT2n
  have hT1' : w1 T = some (eN g (2 ^ e) f, 5) := (hW T hTm).trans hT1
  have hTT2 : T ≠ T2 := fun q => by rw [← q, hT1'] at hT2n; cases hT2n
  have hm2 : wset w1 T2 (eN g (2 ^ (e + 1)) (fun _ => none)) 5 m = _ := (ws_n (Ne.symm hT2m)).trans hW2
  have hn : ∀ b, w b ≠ none → b ≠ m → wset w1 T2 (eN g (2 ^ (e + 1)) (fun _ => none)) 5 b = w b := fun b hb hbm => (ws_n (fun q => by rw [← q, hW b hbm] at hT2n; exact hb hT2n)).trans (hW b hbm)
  have hs2 : wset w1 T2 (eN g (2 ^ (e + 1)) (fun _ => none)) 5 T2 = some (eN g (2 ^ (e + 1)) (fun _ => none), 5) := ws_s
  generalize wset w1 T2 (eN g (2 ^ (e + 1)) (fun _ => none)) 5 = w2 at hm2 hn hs2 ⊢
  refine Z.astore ok dJ4_resize_136 (by decide) (by first | exact isRf.r _ | exact isRf.n | exact isRf.v _ | assumption) ?_
  refine Z.aload_n ok dJ4_resize_138 rfl (by first | exact isRf.r _ | exact isRf.n | exact isRf.v _ | assumption) ?_
  refine Z.aload ok dJ4_resize_139 rfl (by first | exact isRf.r _ | exact isRf.n | exact isRf.v _ | assumption) ?_
  refine Z.put (ci := 7) (C := RJ4) (T := TJ4) (N := 8) (ty0 := tyJ4) ok (by first | assumption | exact ws_s | exact hT _ (by assumption) | (rw [ws_n (by assumption)]; assumption)) (by first | decide | assumption) rfl in_J4 tyJ4_ok nmJ4 2 (by decide) q99 (Or.inl rfl) rfl (okV_a (by first | exact isRf.r _ | exact isRf.n | exact isRf.v _ | assumption)) (by rfl) dJ4_resize_141 ?_
  refine Z.aload_n ok dJ4_resize_144 rfl (by first | exact isRf.r _ | exact isRf.n | exact isRf.v _ | assumption) ?_
  refine Z.ifnullR ok dJ4_resize_145 ?_
  refine Z.iconst_0 ok dJ4_resize_148 ?_
  refine Z.istore ok dJ4_resize_149 (by decide) ?_
  have hfin : ∀ b, b ≠ m → w b ≠ none → wset w2 m (ob 7 ([Value.null, .null, .ref T, .null, .int sz, .int mc, .int (nI (3 * 2 ^ (e - 1))), .float lf].set 2 (.ref T2))) 4 b = w b := fun b h1 h2 => (ws_n h1).trans (hn b h2 h1)
  have hL := rz_loop (l3 := .int (nI (3 * 2 ^ (e - 2)))) (l5 := .int (nI (3 * 2 ^ (e - 1)))) (T := T) (T2 := T2) (f := f) ok hQ he hinj hlen (2 ^ e) 0 (wset w2 m (ob 7 ([Value.null, .null, .ref T, .null, .int sz, .int mc, .int (nI (3 * 2 ^ (e - 1))), .float lf].set 2 (.ref T2))) 4) none none none none none none (by omega) ⟨hTT2, ws_s, ⟨f, (hfin T hTm (by rw [hT1]; exact Option.some_ne_none _)).trans hT1, fun _ _ _ => rfl⟩, ⟨fun _ => none, (ws_n hT2m).trans hs2, fun _ _ _ => ⟨rfl, rfl⟩, fun i hi => absurd hi (Nat.not_lt_zero _)⟩, fun i _ hi => ?_, fun b y t hb h4 _ => ?_⟩
  · rw [cnt_0] at hL
    exact hL
  · obtain ⟨C, c1, c2⟩ := hT2 i hi
    refine ⟨C, c1, c2.keep (fun b hb => hfin b (fun q => ?_) (c2.some hb))⟩
    obtain ⟨d, -, hnd⟩ := c2.nd hb
    rw [q] at hnd
    rcases hnd with ⟨_, hnd⟩ | ⟨_, _, _, hnd⟩ <;> rw [hm] at hnd <;> cases hnd
  · rw [hfin b (fun q => by rw [q, hm] at hb; cases hb; exact h4 rfl) (by rw [hb]; exact Option.some_ne_none _)]
    exact hb
theorem resize0_ct (hm : w m = some (eM .null sz mc 0 lf, 4)) : Ct g yJ4_resize cJ4_resize 14 (some (.array (.object "java/util/HashMap$Node"))) 5 1 16 [.ref m] w (fun o w' => ∃ T' f', o = some (.ref T') ∧ HT g w' T' 4 f' [] ∧ w' m = some (eM (.ref T') sz mc (nI (3 * 2 ^ 2)) lf, 4) ∧ FrH w w') noX := by
  refine Ct.of RJ4 "resize" ⟨rfl, rfl⟩ (by decide +kernel) (by simp [Value.category] <;> exact cat_rf _) (Nat.le_of_ble_eq_true rfl) (fun x ok hQ hN => ?_)
  show Z g x 14 0 [some (.ref m), none, none, none, none, none, none, none, none, none, none, none, none, none] [] w 1 16
  refine Z.aload_n ok dJ4_resize_0 rfl (by first | exact isRf.r _ | exact isRf.n | exact isRf.v _ | assumption) ?_
  refine Z.get (ci := 7) (C := RJ4) (T := TJ4) (N := 8) ok (by first | assumption | exact ws_s | exact hT _ (by assumption) | (rw [ws_n (by assumption)]; assumption)) rfl in_J4 2 (by decide) q99 (Or.inl rfl) (by rfl) dJ4_resize_1 ?_
  refine Z.astore_n (i := 1) ok dJ4_resize_4 rfl (by decide) (by first | exact isRf.r _ | exact isRf.n | exact isRf.v _ | assumption) ?_
  refine Z.aload_n ok dJ4_resize_5 rfl (by first | exact isRf.r _ | exact isRf.n | exact isRf.v _ | assumption) ?_
  refine Z.ifnonnullN ok dJ4_resize_6 ?_
  refine Z.iconst_0 ok dJ4_resize_9 ?_
  refine Z.goto (tgt := 15) ok dJ4_resize_10 (by decide) ?_
  refine Z.istore_n (i := 2) ok dJ4_resize_15 rfl (by decide) ?_
  refine Z.aload_n ok dJ4_resize_16 rfl (by first | exact isRf.r _ | exact isRf.n | exact isRf.v _ | assumption) ?_
  refine Z.get (ci := 7) (C := RJ4) (T := TJ4) (N := 8) ok (by first | assumption | exact ws_s | exact hT _ (by assumption) | (rw [ws_n (by assumption)]; assumption)) rfl in_J4 6 (by decide) q102 (Or.inl rfl) (by rfl) dJ4_resize_17 ?_
  refine Z.istore_n (i := 3) ok dJ4_resize_20 rfl (by decide) ?_
  refine Z.iconst_0 ok dJ4_resize_21 ?_
  refine Z.istore ok dJ4_resize_22 (by decide) ?_
  refine Z.iload_n ok dJ4_resize_24 rfl ?_
  refine Z.if_le (tgt := 67) ok dJ4_resize_25 (by decide) (fun _ => ?_) (fun hc => absurd (by decide) hc)
  refine Z.iload_n ok dJ4_resize_67 rfl ?_
  refine Z.if_le (tgt := 77) ok dJ4_resize_68 (by decide) (fun _ => ?_) (fun hc => absurd (by decide) hc)
  refine Z.bipush (v := 16) ok dJ4_resize_77 (by decide) ?_
  refine Z.istore ok dJ4_resize_79 (by decide) ?_
  refine Z.bipush (v := 12) ok dJ4_resize_81 (by decide) ?_
  refine Z.istore ok dJ4_resize_83 (by decide) ?_
  refine Z.iload ok dJ4_resize_85 rfl ?_
  refine Z.if_ne (tgt := 125) ok dJ4_resize_87 (by decide) (fun _ => ?_) (fun hc => absurd hc (by decide))
  refine Z.aload_n ok dJ4_resize_125 rfl (by first | exact isRf.r _ | exact isRf.n | exact isRf.v _ | assumption) ?_
  refine Z.iload ok dJ4_resize_126 rfl ?_
  refine Z.put (ci := 7) (C := RJ4) (T := TJ4) (N := 8) (ty0 := tyJ4) ok (by first | assumption | exact ws_s | exact hT _ (by assumption) | (rw [ws_n (by assumption)]; assumption)) (by first | decide | assumption) rfl in_J4 tyJ4_ok nmJ4 6 (by decide) q102 (Or.inl rfl) rfl (okV_i _) (by rfl) dJ4_resize_128 ?_
  refine Z.iload ok dJ4_resize_131 rfl ?_
  have hW2 : wset w m (ob 7 ([Value.null, .null, .null, .null, .int sz, .int mc, .int 0, .float lf].set 6 (.int 12))) 4 m = some (eM .null sz mc 12 lf, 4) := ws_s
  have hW : ∀ b, b ≠ m → wset w m (ob 7 ([Value.null, .null, .null, .null, .int sz, .int mc, .int 0, .float lf].set 6 (.int 12))) 4 b = w b := fun b hb => ws_n hb
  obtain ⟨w1, hw1⟩ : ∃ w1, w1 = wset w m (ob 7 ([Value.null, .null, .null, .null, .int sz, .int mc, .int 0, .float lf].set 6 (.int 12))) 4 := ⟨_, rfl⟩
  rw [← hw1] at hW hW2
  refine Z.cw (w' := w1) hw1 ?_
  refine Z.newN (N := 16) (kc' := 0) (ks' := 0) 5 ok q1244 q1245 (by decide) (by decide) (by decide) (by omega) (by omega) dJ4_resize_133 (fun T2 hT2n hT2A => ?_)
  have hT2m : T2 ≠ m := fun q => by rw [q, hW2] at hT2n; cases hT2n
  have hm2 : wset w1 T2 (eN g 16 (fun _ => none)) 5 m = _ := (ws_n (Ne.symm hT2m)).trans hW2
  refine Z.astore ok dJ4_resize_136 (by decide) (by first | exact isRf.r _ | exact isRf.n | exact isRf.v _ | assumption) ?_
  refine Z.aload_n ok dJ4_resize_138 rfl (by first | exact isRf.r _ | exact isRf.n | exact isRf.v _ | assumption) ?_
  refine Z.aload ok dJ4_resize_139 rfl (by first | exact isRf.r _ | exact isRf.n | exact isRf.v _ | assumption) ?_
  refine Z.put (ci := 7) (C := RJ4) (T := TJ4) (N := 8) (ty0 := tyJ4) ok (by first | assumption | exact ws_s | exact hT _ (by assumption) | (rw [ws_n (by assumption)]; assumption)) (by first | decide | assumption) rfl in_J4 tyJ4_ok nmJ4 2 (by decide) q99 (Or.inl rfl) rfl (okV_a (by first | exact isRf.r _ | exact isRf.n | exact isRf.v _ | assumption)) (by rfl) dJ4_resize_141 ?_
  refine Z.aload_n ok dJ4_resize_144 rfl (by first | exact isRf.r _ | exact isRf.n | exact isRf.v _ | assumption) ?_
  refine Z.ifnullN (tgt := 353) ok dJ4_resize_145 (by decide) ?_
  refine Z.aload ok dJ4_resize_353 rfl (by first | exact isRf.r _ | exact isRf.n | exact isRf.v _ | assumption) ?_
  refine Z.aret ok hQ (by first | exact Or.inl ⟨_, rfl⟩ | exact Or.inr ⟨_, rfl⟩) (by first | exact isRf.r _ | exact isRf.n | exact isRf.v _ | assumption) dJ4_resize_355 ?_
  refine ⟨T2, fun _ => none, rfl, ⟨(ws_n hT2m).trans ws_s, fun i _ => ⟨[], rfl, Bin.nil⟩⟩, ws_s, fun b y t hb h4 _ => ?_⟩
  have hbm : b ≠ m := fun q => by rw [q, hm] at hb; cases hb; exact h4 rfl
  rw [ws_n hbm, ws_n (fun q => by rw [← q, hW b hbm, hb] at hT2n; cases hT2n), hW b hbm]
  exact hb
end RZ3
