/-! ===== java.util.ArrayList ===== -/
/-- the list l (its tag tl) holds the objects xs; its array, if it has one, is its own: tag 1000 + l -/
def isL (g : Gx) (w : Wd) (l tl : Nat) (xs : List Nat) : Prop := ∃ (mo : Int32) (d cap : Nat) (f : Nat → Option Nat), w l = some (ob 6 [.int mo, .ref d, .int (nI xs.length)], tl) ∧ xs.length ≤ cap ∧ cap < 1000000 ∧ ((cap = 0 ∧ d = gS g 0) ∨ (0 < cap ∧ w d = some (eO g cap f, 1000 + l))) ∧ ∀ j : Nat, j < xs.length → f j = xs[j]?
def FrL (l : Nat) (w w' : Wd) : Prop := ∀ a e t, w a = some (e, t) → a ≠ l → t ≠ 1000 + l → w' a = some (e, t)
theorem FrL.rf {l : Nat} {w : Wd} : FrL l w w := fun _ _ _ h _ _ => h
theorem FrL.tr {l : Nat} {w w1 w2 : Wd} (h : FrL l w w1) (k : FrL l w1 w2) : FrL l w w2 := fun a e t ha h1 h2 => k a e t (h a e t ha h1 h2) h1 h2
theorem FrL.set {l a t : Nat} {w : Wd} {e : va_E} (h : a = l ∨ w a = none ∨ ∃ e', w a = some (e', 1000 + l)) : FrL l w (wset w a e t) := by
  intro b e' t' hb h1 h2
  have hne : b ≠ a := by
    intro q
    subst q
    rcases h with h | h | ⟨e'', h⟩
    · exact h1 h
    · rw [h] at hb; cases hb
    · rw [h] at hb; cases hb; exact h2 rfl
  rw [ws_n hne]
  exact hb
/-- another's change leaves a list as it is -/
theorem isL.kept {g : Gx} {w w' : Wd} {l tl : Nat} {xs : List Nat} (h : isL g w l tl xs) (hk : ∀ a e t, w a = some (e, t) → (a = l ∨ t = 1000 + l) → w' a = some (e, t)) : isL g w' l tl xs := by
  obtain ⟨mo, d, cap, f, h1, h2, hcap, h3, h4⟩ := h
  refine ⟨mo, d, cap, f, hk _ _ _ h1 (Or.inl rfl), h2, hcap, ?_, h4⟩
  rcases h3 with h3 | ⟨h3, h5⟩
  · exact Or.inl h3
  · exact Or.inr ⟨h3, hk _ _ _ h5 (Or.inr rfl)⟩
section ALIST
variable {g : Gx} {w : Wd} {l tl : Nat} {xs : List Nat}
theorem absColl_ct {fs : List Value} (a : Nat) : Ct g yJ0_init cJ0_init 1 none 1 0 0 [.ref a] w (PW none w) noX := by
  refine Ct.of RJ0 "<init>" ⟨rfl, rfl⟩ (by decide +kernel) (by simp [Value.category] <;> exact cat_rf _) (Nat.le_of_ble_eq_true rfl) (fun x ok hQ hN => ?_)
  show Z g x 1 0 [some (.ref a)] [] w 0 0
  refine Z.aload_n ok dJ0_init_0 rfl (by first | exact isRf.r _ | exact isRf.n | exact isRf.v _ | assumption) ?_
  refine Z.objInit ok q74 q61 q62 (by decide) (by first | exact Nat.le_of_ble_eq_true rfl | simp [Value.category, cat_rf]) dJ0_init_1 ?_
  refine Z.vret ok hQ rfl dJ0_init_4 ?_
  exact ⟨rfl, rfl⟩
theorem absList_ct (hw : w l = some (ob 6 [.int 0, .null, .int 0], tl)) (ht : tl ≠ 0) : Ct g yJ1_init cJ1_init 1 none 2 0 0 [.ref l] w (fun v w' => v = none ∧ w' l = some (ob 6 [.int 0, .null, .int 0], tl) ∧ FrL l w w') noX := by
  refine Ct.of RJ1 "<init>" ⟨rfl, rfl⟩ (by decide +kernel) (by simp [Value.category] <;> exact cat_rf _) (Nat.le_of_ble_eq_true rfl) (fun x ok hQ hN => ?_)
  show Z g x 1 0 [some (.ref l)] [] w 0 0
  refine Z.aload_n ok dJ1_init_0 rfl (by first | exact isRf.r _ | exact isRf.n | exact isRf.v _ | assumption) ?_
  refine Z.callI ok (absColl_ct (fs := []) l) q71 q72 q17 q73 rfl nk_J0_init rfl (by decide) (by first | exact Nat.le_of_ble_eq_true rfl | simp [Value.category, cat_rf]) (Nat.le_refl _) (Nat.le_refl _) dJ1_init_1 rfl ZX.no (fun v w1 hp => ?_)
  obtain ⟨rfl, rfl⟩ := hp
  refine Z.aload_n ok dJ1_init_4 rfl (by first | exact isRf.r _ | exact isRf.n | exact isRf.v _ | assumption) ?_
  refine Z.iconst_0 ok dJ1_init_5 ?_
  refine Z.put (ci := 6) (C := RJ2) (T := TJ2) (N := 3) (ty0 := tyJ2) ok (by first | assumption | exact ws_s | exact hT _ (by assumption) | (rw [ws_n (by assumption)]; assumption)) (by first | decide | assumption) rfl in_J2 tyJ2_ok nmJ2 0 (by decide) q79 (Or.inl rfl) rfl (okV_i _) (by rfl) dJ1_init_6 ?_
  refine Z.vret ok hQ rfl dJ1_init_9 ?_
  exact ⟨rfl, ws_s, FrL.set (Or.inl rfl)⟩
theorem alistInit_ct (hw : w l = some (ob 6 [.int 0, .null, .int 0], tl)) (ht : tl ≠ 0) : Ct g yJ2_init cJ2_init 1 none 3 0 0 [.ref l] w (fun v w' => v = none ∧ isL g w' l tl [] ∧ FrL l w w') noX := by
  refine Ct.of RJ2 "<init>" ⟨rfl, rfl⟩ (by decide +kernel) (by simp [Value.category] <;> exact cat_rf _) (Nat.le_of_ble_eq_true rfl) (fun x ok hQ hN => ?_)
  show Z g x 1 0 [some (.ref l)] [] w 0 0
  refine Z.aload_n ok dJ2_init_0 rfl (by first | exact isRf.r _ | exact isRf.n | exact isRf.v _ | assumption) ?_
  refine Z.callI ok (absList_ct hw ht) q68 q69 q18 q70 rfl nk_J1_init rfl (by decide) (by first | exact Nat.le_of_ble_eq_true rfl | simp [Value.category, cat_rf]) (Nat.le_refl _) (Nat.le_refl _) dJ2_init_1 rfl ZX.no (fun v w1 hp => ?_)
  obtain ⟨rfl, hw1, hF1⟩ := hp
  refine Z.aload_n ok dJ2_init_4 rfl (by first | exact isRf.r _ | exact isRf.n | exact isRf.v _ | assumption) ?_
  refine Z.gets ok (fun U h => h.ss.2.2.2.2.1) q75 (Or.inl rfl) dJ2_init_5 ?_
  refine Z.put (ci := 6) (C := RJ2) (T := TJ2) (N := 3) (ty0 := tyJ2) ok (by first | assumption | exact ws_s | exact hT _ (by assumption) | (rw [ws_n (by assumption)]; assumption)) (by first | decide | assumption) rfl in_J2 tyJ2_ok nmJ2 1 (by decide) q77 (Or.inl rfl) rfl (okV_a (by first | exact isRf.r _ | exact isRf.n | exact isRf.v _ | assumption)) (by rfl) dJ2_init_8 ?_
  refine Z.vret ok hQ rfl dJ2_init_11 ?_
  exact ⟨rfl, ⟨0, gS g 0, 0, fun _ => none, ws_s, Nat.le_refl 0, by omega, Or.inl ⟨rfl, rfl⟩, fun j hj => absurd hj (Nat.not_lt_zero _)⟩, hF1.tr (FrL.set (Or.inl rfl))⟩
theorem alistSize_ct (h : isL g w l tl xs) : Ct g yJ2_size cJ2_size 1 (some .int) 1 0 0 [.ref l] w (PW (rI (nI xs.length)) w) noX := by
  refine Ct.of RJ2 "size" ⟨rfl, rfl⟩ (by decide +kernel) (by simp [Value.category] <;> exact cat_rf _) (Nat.le_of_ble_eq_true rfl) (fun x ok hQ hN => ?_)
  show Z g x 1 0 [some (.ref l)] [] w 0 0
  obtain ⟨mo, d, cap, f, h1, h2, hcap, h3, h4⟩ := h
  refine Z.aload_n ok dJ2_size_0 rfl (by first | exact isRf.r _ | exact isRf.n | exact isRf.v _ | assumption) ?_
  refine Z.get (ci := 6) (C := RJ2) (T := TJ2) (N := 3) ok (by first | assumption | exact ws_s | exact hT _ (by assumption) | (rw [ws_n (by assumption)]; assumption)) rfl in_J2 2 (by decide) q78 (Or.inl rfl) (by rfl) dJ2_size_1 ?_
  refine Z.iret ok hQ (by first | rfl | exact bI_nar _) dJ2_size_4 ?_
  exact ⟨rfl, rfl⟩
theorem alistEmpty_ct (h : isL g w l tl xs) (hn : xs.length < 2 ^ 31) : Ct g yJ2_isEmpty cJ2_isEmpty 1 (some .boolean) 1 0 0 [.ref l] w (PW (rI (bI (decide (xs.length = 0)))) w) noX := by
  refine Ct.of RJ2 "isEmpty" ⟨rfl, rfl⟩ (by decide +kernel) (by simp [Value.category] <;> exact cat_rf _) (Nat.le_of_ble_eq_true rfl) (fun x ok hQ hN => ?_)
  show Z g x 1 0 [some (.ref l)] [] w 0 0
  obtain ⟨mo, d, cap, f, h1, h2, hcap, h3, h4⟩ := h
  refine Z.aload_n ok dJ2_isEmpty_0 rfl (by first | exact isRf.r _ | exact isRf.n | exact isRf.v _ | assumption) ?_
  refine Z.get (ci := 6) (C := RJ2) (T := TJ2) (N := 3) ok (by first | assumption | exact ws_s | exact hT _ (by assumption) | (rw [ws_n (by assumption)]; assumption)) rfl in_J2 2 (by decide) q78 (Or.inl rfl) (by rfl) dJ2_isEmpty_1 ?_
  refine Z.if_ne (tgt := 11) ok dJ2_isEmpty_4 (by decide) (fun hc => ?_) (fun hc => ?_)
  · refine Z.iconst_0 ok dJ2_isEmpty_11 ?_
    refine Z.iret ok hQ (by first | rfl | exact bI_nar _) dJ2_isEmpty_12 ?_
    exact ⟨by rw [decide_eq_false (fun q => hc (by rw [q]; rfl))]; rfl, rfl⟩
  · refine Z.iconst_1 ok dJ2_isEmpty_7 ?_
    refine Z.goto (tgt := 12) ok dJ2_isEmpty_8 (by decide) ?_
    refine Z.iret ok hQ (by first | rfl | exact bI_nar _) dJ2_isEmpty_12 ?_
    exact ⟨by rw [decide_eq_true ((nI_eq (b := 0) hn (by decide)).mp hc)]; rfl, rfl⟩
theorem preCheck_ct {j n : Nat} (hj : j < n) (hn : n < 2 ^ 31) : Ct g yJ16_checkIndex cJ16_checkIndex 3 (some .int) 1 0 0 [.int (nI j), .int (nI n), .null] w (PW (rI (nI j)) w) noX := by
  refine Ct.of RJ16 "checkIndex" ⟨rfl, rfl⟩ (by decide +kernel) (by simp [Value.category] <;> exact cat_rf _) (Nat.le_of_ble_eq_true rfl) (fun x ok hQ hN => ?_)
  show Z g x 3 0 [some (.int (nI j)), some (.int (nI n)), some (.null)] [] w 0 0
  refine Z.iload_n ok dJ16_checkIndex_0 rfl ?_
  refine Z.if_lt (tgt := 9) ok dJ16_checkIndex_1 (by decide) (fun hc => absurd hc (nI_pos (by omega))) (fun _ => ?_)
  refine Z.iload_n ok dJ16_checkIndex_4 rfl ?_
  refine Z.iload_n ok dJ16_checkIndex_5 rfl ?_
  refine Z.icmp_lt (tgt := 16) ok dJ16_checkIndex_6 (by decide) (fun _ => ?_) (fun hc => absurd (nI_lt hj hn) hc)
  refine Z.iload_n ok dJ16_checkIndex_16 rfl ?_
  refine Z.iret ok hQ (by first | rfl | exact bI_nar _) dJ16_checkIndex_17 ?_
  exact ⟨rfl, rfl⟩
theorem checkIndex_ct {j n : Nat} (hj : j < n) (hn : n < 2 ^ 31) : Ct g yJ15_checkIndex cJ15_checkIndex 2 (some .int) 2 0 0 [.int (nI j), .int (nI n)] w (PW (rI (nI j)) w) noX := by
  refine Ct.of RJ15 "checkIndex" ⟨rfl, rfl⟩ (by decide +kernel) (by simp [Value.category] <;> exact cat_rf _) (Nat.le_of_ble_eq_true rfl) (fun x ok hQ hN => ?_)
  show Z g x 2 0 [some (.int (nI j)), some (.int (nI n))] [] w 0 0
  refine Z.iload_n ok dJ15_checkIndex_0 rfl ?_
  refine Z.iload_n ok dJ15_checkIndex_1 rfl ?_
  refine Z.null ok dJ15_checkIndex_2 ?_
  refine Z.callS ok (preCheck_ct hj hn) q164 q165 q36 q166 nk_J16_checkIndex rfl (by decide) (by first | exact Nat.le_of_ble_eq_true rfl | simp [Value.category, cat_rf]) (Nat.le_refl _) (Nat.le_refl _) dJ15_checkIndex_3 rfl ZX.no (fun v w1 hp => ?_)
  obtain ⟨rfl, rfl⟩ := hp
  refine Z.iret ok hQ (by first | rfl | exact bI_nar _) dJ15_checkIndex_6 ?_
  exact ⟨rfl, rfl⟩
theorem elemData_ct (h : isL g w l tl xs) {j y : Nat} (hj : xs[j]? = some y) (hn : xs.length < 2 ^ 31) : Ct g yJ2_elementData cJ2_elementData 2 (some (.object "java/lang/Object")) 1 0 0 [.ref l, .int (nI j)] w (PW (some (.ref y)) w) noX := by
  refine Ct.of RJ2 "elementData" ⟨rfl, rfl⟩ (by decide +kernel) (by simp [Value.category] <;> exact cat_rf _) (Nat.le_of_ble_eq_true rfl) (fun x ok hQ hN => ?_)
  show Z g x 2 0 [some (.ref l), some (.int (nI j))] [] w 0 0
  obtain ⟨mo, d, cap, f, h1, h2, hcap, h3, h4⟩ := h
  have hlt := (List.getElem?_eq_some_iff.mp hj).1
  rcases h3 with ⟨h3, -⟩ | ⟨h3, h5⟩
  · omega
  · refine Z.aload_n ok dJ2_elementData_0 rfl (by first | exact isRf.r _ | exact isRf.n | exact isRf.v _ | assumption) ?_
    refine Z.get (ci := 6) (C := RJ2) (T := TJ2) (N := 3) ok (by first | assumption | exact ws_s | exact hT _ (by assumption) | (rw [ws_n (by assumption)]; assumption)) rfl in_J2 1 (by decide) q77 (Or.inl rfl) (by rfl) dJ2_elementData_1 ?_
    refine Z.iload_n ok dJ2_elementData_4 rfl ?_
    refine Z.oald ok h5 (vp_in_nI (by omega) (by omega)) dJ2_elementData_5 ?_
    rw [nI_clamp (by omega), h4 j hlt, hj]
    refine Z.aret ok hQ (by first | exact Or.inl ⟨_, rfl⟩ | exact Or.inr ⟨_, rfl⟩) (by first | exact isRf.r _ | exact isRf.n | exact isRf.v _ | assumption) dJ2_elementData_6 ?_
    exact ⟨rfl, rfl⟩
theorem alistGet_ct (h : isL g w l tl xs) {j y : Nat} (hj : xs[j]? = some y) (hn : xs.length < 2 ^ 31) : Ct g yJ2_get cJ2_get 2 (some (.object "java/lang/Object")) 3 0 0 [.ref l, .int (nI j)] w (PW (some (.ref y)) w) noX := by
  refine Ct.of RJ2 "get" ⟨rfl, rfl⟩ (by decide +kernel) (by simp [Value.category] <;> exact cat_rf _) (Nat.le_of_ble_eq_true rfl) (fun x ok hQ hN => ?_)
  show Z g x 2 0 [some (.ref l), some (.int (nI j))] [] w 0 0
  have hlt := (List.getElem?_eq_some_iff.mp hj).1
  have hL := h
  obtain ⟨mo, d, cap, f, h1, h2, hcap, h3, h4⟩ := h
  refine Z.iload_n ok dJ2_get_0 rfl ?_
  refine Z.aload_n ok dJ2_get_1 rfl (by first | exact isRf.r _ | exact isRf.n | exact isRf.v _ | assumption) ?_
  refine Z.get (ci := 6) (C := RJ2) (T := TJ2) (N := 3) ok (by first | assumption | exact ws_s | exact hT _ (by assumption) | (rw [ws_n (by assumption)]; assumption)) rfl in_J2 2 (by decide) q78 (Or.inl rfl) (by rfl) dJ2_get_2 ?_
  refine Z.callS ok (checkIndex_ct hlt hn) q161 q162 q35 q163 nk_J15_checkIndex rfl (by decide) (by first | exact Nat.le_of_ble_eq_true rfl | simp [Value.category, cat_rf]) (Nat.le_refl _) (Nat.le_refl _) dJ2_get_5 rfl ZX.no (fun v w1 hp => ?_)
  obtain ⟨rfl, rfl⟩ := hp
  refine Z.pop ok dJ2_get_8 (by first | rfl | exact cat_rf _) ?_
  refine Z.aload_n ok dJ2_get_9 rfl (by first | exact isRf.r _ | exact isRf.n | exact isRf.v _ | assumption) ?_
  refine Z.iload_n ok dJ2_get_10 rfl ?_
  refine Z.callV (ci := 6) (q := (RJ2, TJ2, 3)) (C := RJ2) ok (elemData_ct hL hj hn) (by first | assumption | exact ws_s | exact hT _ (by assumption) | (rw [ws_n (by assumption)]; assumption)) rfl rfl q167 q168 (Or.inl q169) q19 q170 nk_J2_elementData rfl (by decide) (by first | exact Nat.le_of_ble_eq_true rfl | simp [Value.category, cat_rf]) (Nat.le_refl _) (Nat.le_refl _) dJ2_get_11 rfl ZX.no (fun v w1 hp => ?_)
  obtain ⟨rfl, rfl⟩ := hp
  refine Z.aret ok hQ (by first | exact Or.inl ⟨_, rfl⟩ | exact Or.inr ⟨_, rfl⟩) (by first | exact isRf.r _ | exact isRf.n | exact isRf.v _ | assumption) dJ2_get_14 ?_
  exact ⟨rfl, rfl⟩
theorem newLength_ct {n : Nat} (hn : n < 1000000) : Ct g yJ9_newLength cJ9_newLength 4 (some .int) 2 0 0 [.int (nI n), .int (nI 1), .int (nI (n / 2))] w (PW (rI (nI (n + (if 1 < n / 2 then n / 2 else 1)))) w) noX := by
  refine Ct.of RJ9 "newLength" ⟨rfl, rfl⟩ (by decide +kernel) (by simp [Value.category] <;> exact cat_rf _) (Nat.le_of_ble_eq_true rfl) (fun x ok hQ hN => ?_)
  show Z g x 4 0 [some (.int (nI n)), some (.int (nI 1)), some (.int (nI (n / 2))), none] [] w 0 0
  refine Z.iload_n ok dJ9_newLength_0 rfl ?_
  refine Z.iload_n ok dJ9_newLength_1 rfl ?_
  refine Z.iload_n ok dJ9_newLength_2 rfl ?_
  refine Z.mmax ok q314 q315 q29 q316 (by decide) (by first | exact Nat.le_of_ble_eq_true rfl | simp [Value.category, cat_rf]) dJ9_newLength_3 ?_
  have e : (if nI 1 < nI (n / 2) then nI (n / 2) else nI 1) = nI (if 1 < n / 2 then n / 2 else 1) := by
    by_cases h : 1 < n / 2
    · rw [if_pos h, if_pos (nI_lt h (by omega))]
    · rw [if_neg h, if_neg (nI_nlt (by omega) (by omega))]
  rw [e]
  generalize hk : (if 1 < n / 2 then n / 2 else 1) = k
  have hk2 : 1 ≤ k ∧ k < 1000000 := by
    subst hk
    split <;> omega
  refine Z.iadd ok dJ9_newLength_6 ?_
  refine Z.istore_n (i := 3) ok dJ9_newLength_7 rfl (by decide) ?_
  refine Z.iconst_0 ok dJ9_newLength_8 ?_
  refine Z.iload_n ok dJ9_newLength_9 rfl ?_
  rw [nI_add]
  refine Z.icmp_ge (tgt := 21) ok dJ9_newLength_10 (by decide) (fun hc => absurd hc (nI_nle (by omega) (by omega))) (fun _ => ?_)
  refine Z.iload_n ok dJ9_newLength_13 rfl ?_
  refine Z.ldc ok q317 dJ9_newLength_14 ?_
  refine Z.icmp_gt (tgt := 21) ok dJ9_newLength_16 (by decide) (fun hc => absurd hc (by rw [show (2147483639 : Int32) = nI 2147483639 from rfl]; exact nI_nlt (by omega) (by omega))) (fun _ => ?_)
  refine Z.iload_n ok dJ9_newLength_19 rfl ?_
  refine Z.iret ok hQ (by first | rfl | exact bI_nar _) dJ9_newLength_20 ?_
  exact ⟨by rw [hk], rfl⟩
/-- what 'copyOf' of references answers: a new array with the first n0 places -/
theorem copyOf3_ct {a t n0 n1 : Nat} {f : Nat → Option Nat} (tq : Nat) (hw : w a = some (eO g n0 f, t)) (h01 : n0 ≤ n1) (hn : n1 < 1000000) (hel : ∀ i : Nat, i < n0 → ∀ y : Nat, f i = some y → isOb w y) (htq : tq ≠ 0) : Ct g yJ11_copyOf_3 cJ11_copyOf_3 4 (some (.array (.object "java/lang/Object"))) 1 1 n1 [.ref a, .int (nI n1), .ref (gS g 9)] w (fun v w' => ∃ q, v = some (.ref q) ∧ w q = none ∧ w' = wset w q (eO g n1 (fun j => if j < n0 then f j else none)) tq) noX := by
  refine Ct.of RJ11 "copyOf" ⟨rfl, rfl⟩ (by decide +kernel) (by simp [Value.category] <;> exact cat_rf _) (Nat.le_of_ble_eq_true rfl) (fun x ok hQ hN => ?_)
  show Z g x 4 0 [some (.ref a), some (.int (nI n1)), some (.ref (gS g 9)), none] [] w 1 n1
  refine Z.aload_n ok dJ11_copyOf_3_0 rfl (by first | exact isRf.r _ | exact isRf.n | exact isRf.v _ | assumption) ?_
  refine Z.ldcM ok q1073 (fun U h => h.ss.2.2.2.2.2.2.2.2.2.2.1) dJ11_copyOf_3_1 ?_
  show Z g x 4 _ _ [va_rf (some (gS g 9)), va_rf (some (gS g 9))] w 1 n1
  refine Z.acmp_ne (tgt := 13) ok dJ11_copyOf_3_3 (by decide) (fun hc => absurd rfl hc) (fun _ => ?_)
  refine Z.iload_n ok dJ11_copyOf_3_6 rfl ?_
  refine Z.newO (N := n1) (kc' := 0) (ks' := 0) tq ok q1075 q1074 (nI_pos (by omega)) (nI_clamp (by omega)) (by omega) (by omega) (by omega) dJ11_copyOf_3_7 (fun q hq hqA => ?_)
  have hne : a ≠ q := fun e => by rw [e, hq] at hw; cases hw
  have hw1 : wset w q (eO g n1 (fun _ => none)) tq a = some (eO g n0 f, t) := (ws_n hne).trans hw
  refine Z.goto (tgt := 24) ok dJ11_copyOf_3_10 (by decide) ?_
  refine Z.astore_n (i := 3) ok dJ11_copyOf_3_24 rfl (by decide) (by first | exact isRf.r _ | exact isRf.n | exact isRf.v _ | assumption) ?_
  refine Z.aload_n ok dJ11_copyOf_3_25 rfl (by first | exact isRf.r _ | exact isRf.n | exact isRf.v _ | assumption) ?_
  refine Z.iconst_0 ok dJ11_copyOf_3_26 ?_
  refine Z.aload_n ok dJ11_copyOf_3_27 rfl (by first | exact isRf.r _ | exact isRf.n | exact isRf.v _ | assumption) ?_
  refine Z.iconst_0 ok dJ11_copyOf_3_28 ?_
  refine Z.aload_n ok dJ11_copyOf_3_29 rfl (by first | exact isRf.r _ | exact isRf.n | exact isRf.v _ | assumption) ?_
  refine Z.alen (k0 := 4) ok hw1 rfl dJ11_copyOf_3_30 ?_
  refine Z.iload_n ok dJ11_copyOf_3_31 rfl ?_
  refine Z.mmin ok q332 q333 q29 q334 (by decide) (by first | exact Nat.le_of_ble_eq_true rfl | simp [Value.category, cat_rf]) dJ11_copyOf_3_32 ?_
  have e : (if nI n1 < nI n0 then nI n1 else nI n0) = nI n0 := if_neg (nI_nlt h01 (by omega))
  rw [e]
  have c0 : (0 : Int32).toNatClampNeg = 0 := rfl
  refine Z.copyO (n0 := n0) (n1 := n1) (sp := 0) (dp := 0) (n := nI n0) (by decide) (by decide) (nI_pos (by omega)) (by rw [c0, nI_clamp (by omega)]; omega) (by rw [c0, nI_clamp (by omega)]; omega) ok q335 q336 q337 q31 hw1 ws_s htq ?_ (by decide) (by exact Nat.le_of_ble_eq_true rfl) dJ11_copyOf_3_35 ?_
  · intro i hi y hy
    rw [nI_clamp (by omega)] at hi
    rw [c0, Nat.zero_add] at hy
    obtain ⟨ci, r, fs, t', hc, hca, h⟩ := hel i hi y hy
    exact ⟨ci, r, fs, t', hc, hca, (ws_n (fun e => by rw [e, hq] at h; cases h)).trans h⟩
  · refine Z.aload_n ok dJ11_copyOf_3_38 rfl (by first | exact isRf.r _ | exact isRf.n | exact isRf.v _ | assumption) ?_
    refine Z.aret ok hQ (by first | exact Or.inl ⟨_, rfl⟩ | exact Or.inr ⟨_, rfl⟩) (by first | exact isRf.r _ | exact isRf.n | exact isRf.v _ | assumption) dJ11_copyOf_3_39 ?_
    refine ⟨q, rfl, hq, ?_⟩
    funext b
    by_cases hb : b = q
    · rw [ws_e hb, ws_e hb, c0, nI_clamp (by omega)]
      congr 5
      funext j
      unfold va_cpy
      simp
    · rw [ws_n hb, ws_n hb, ws_n hb]
end ALIST
