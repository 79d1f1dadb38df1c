/-! ===== ALERTINDEX: lay ===== -/
/-- what lies outside the class: the reference, the law's own -/
def FrO (w w' : Wd) : Prop := ∀ b y t, w b = some (y, t) → t ≤ 3 ∨ (20 ≤ t ∧ t < 1000) → w' b = some (y, t)
theorem FrO.rf {w : Wd} : FrO w w := fun _ _ _ h _ => h
theorem FrO.tr {w1 w2 w3 : Wd} (h1 : FrO w1 w2) (h2 : FrO w2 w3) : FrO w1 w3 := fun b y t h c => h2 b y t (h1 b y t h c) c
def FrY (w w' : Wd) : Prop := FrX w w' ∧ FrO w w'
theorem FrY.rf {w : Wd} : FrY w w := ⟨FrX.rf, FrO.rf⟩
theorem FrY.tr {w1 w2 w3 : Wd} (h1 : FrY w1 w2) (h2 : FrY w2 w3) : FrY w1 w3 := ⟨h1.1.tr h2.1, h1.2.tr h2.2⟩
section LAY
variable {g : Gx} {w w' w0 : Wd}
theorem FrY.of (h : ∀ b y t, w b = some (y, t) → t ≤ 3 ∨ (10 ≤ t ∧ t ≤ 18) ∨ (20 ≤ t ∧ t < 1000) ∨ (∃ l fs tl, t = 1000 + l ∧ w l = some (ob 6 fs, tl) ∧ 12 ≤ tl ∧ tl ≤ 17 ∧ tl ≠ 16) → w' b = some (y, t)) : FrY w w' := by
  refine ⟨FrX.of (fun b y t hb hc => h b y t hb ?_), fun b y t hb hc => h b y t hb ?_⟩
  · rcases hc with hc | hc
    · exact Or.inr (Or.inl hc)
    · exact Or.inr (Or.inr (Or.inr hc))
  · rcases hc with hc | hc
    · exact Or.inl hc
    · exact Or.inr (Or.inr (Or.inl hc))
/-- all but tags 4 to 8 -/
theorem FrY.mid (h : ∀ b y t, w b = some (y, t) → t < 4 ∨ 8 < t → w' b = some (y, t)) : FrY w w' := FrY.of (fun b y t hb hc => h b y t hb (by
  rcases hc with c | c | c | ⟨_, _, _, c, _⟩ <;> omega))
theorem FrS.Y (h : FrS w w') : FrY w w' := FrY.mid (fun b y t hb hc => h b y t hb (by omega) (by omega))
theorem FrK.Y (h : FrK g w w') : FrY w w' := FrY.mid (fun b y t hb hc => h.1 b y t hb (by omega))
theorem FrP.Y (h : FrP g w w') : FrY w w' := FrY.mid (fun b y t hb hc => h.1 b y t hb (by omega) (by omega) (by omega))
theorem FrS.str (h : FrS w w') {b : Nat} {xs : List Nat} (hs : isStr g w b xs) : isStr g w' b xs := by
  obtain ⟨v, f, h0, k1, k2, k3⟩ := hs
  exact ⟨v, f, h0, h _ _ _ k1 (by decide) (by decide), h _ _ _ k2 (by decide) (by decide), k3⟩
theorem FrS.I (h : FrS w w') : FrI g w w' := ⟨fun b y t hb hc => h b y t hb (by
  rcases hc with c | c | c | ⟨_, _, c, _⟩ <;> omega) (by
  rcases hc with c | c | c | ⟨_, _, c, _⟩ <;> omega), fun b xs hs => h.str hs⟩
theorem FrK.I (h : FrK g w w') : FrI g w w' := ⟨fun b y t hb hc => h.1 b y t hb (by
  rcases hc with c | c | c | ⟨_, _, c, _⟩ <;> omega), h.2⟩
abbrev IXt : Type := Nat → Nat → Nat → List Nat
def ixAdd (IX : IXt) (n a b i : Nat) : IXt := fun n' a' b' => if n' = n ∧ a' = a ∧ b' = b then IX n' a' b' ++ [i] else IX n' a' b'
def layF (hi n i : Nat) : Nat → Nat → IXt → IXt
  | 0, _, IX => IX
  | f + 1, at_, IX => if at_ ≤ hi then layF hi n i f (at_ + pieceN at_ hi) (ixAdd IX n at_ (pieceN at_ hi) i) else IX
theorem isKey_piece {n at_ hi : Nat} (hn : n < 6) (ha : at_ < 64) : isKey n at_ (pieceN at_ hi) := by
  obtain ⟨h1, h2⟩ := pieceN_ok at_ hi
  refine ⟨hn, ha, ?_⟩
  rcases h1 with h | h | h | h | h | h | h <;> rw [h] at h2 ⊢
  · exact ⟨0, by decide, rfl, h2⟩
  · exact ⟨1, by decide, rfl, h2⟩
  · exact ⟨2, by decide, rfl, h2⟩
  · exact ⟨3, by decide, rfl, h2⟩
  · exact ⟨4, by decide, rfl, h2⟩
  · exact ⟨5, by decide, rfl, h2⟩
  · exact ⟨6, by decide, rfl, h2⟩
theorem isIX.hq {mm : Nat} {E : List Dt} {IX : IXt} {P : Nat → Nat} (h : isIX g w mm E IX P) {n a b : Nat} (hk : isKey n a b) : ∀ e, e ∈ E → e.1 = hkey (kchars n a b) → isStr g w e.2.1 (kchars n a b) ∧ isL g w e.2.2 19 ((IX n a b).map P) := fun e he hh => by
  obtain ⟨n', a', b', k1, k2, k3, k4⟩ := h.2.2.1 e he
  obtain ⟨rfl, rfl, rfl⟩ := hkey_inj k1 hk (k2 ▸ hh)
  exact ⟨k3, k4⟩
theorem nd_map {α β : Type} [DecidableEq β] {f : α → β} : ∀ {L : List α}, (L.map f).Nodup → ∀ {x y : α}, x ∈ L → y ∈ L → f x = f y → x = y
  | z :: L, h, x, y, hx, hy, e => by
    rw [List.map_cons, List.nodup_cons] at h
    rcases List.mem_cons.mp hx with hx1 | hx1
    · rcases List.mem_cons.mp hy with hy1 | hy1
      · rw [hx1, hy1]
      · rw [hx1] at e
        exact absurd (List.mem_map.mpr ⟨y, hy1, e.symm⟩) h.1
    · rcases List.mem_cons.mp hy with hy1 | hy1
      · rw [hy1] at e
        exact absurd (List.mem_map.mpr ⟨x, hx1, e⟩) h.1
      · exact nd_map h.2 hx1 hy1 e
/-- a place is added to a key's list -/
theorem isIX.add {mm c i : Nat} {E : List Dt} {IX : IXt} {P : Nat → Nat} {n a b : Nat} {e0 : Dt} (h : isIX g w mm E IX P) (hk : isKey n a b) (he : e0 ∈ E) (h1 : e0.1 = hkey (kchars n a b)) (hc : e0.2.2 = c) (hL : isL g w' c 19 ((IX n a b).map P ++ [P i])) (hF : FrL c w w') : isIX g w' mm E (ixAdd IX n a b i) P := by
  have hLc := (h.hq hk e0 he h1).2
  rw [hc] at hLc
  obtain ⟨fc, hco⟩ := hLc.obj
  obtain ⟨x1, x2, x3, x4⟩ := h
  have hF0 : ∀ b y t, w b = some (y, t) → t < 10 → w' b = some (y, t) := fun b y t hb ht => hF b y t hb (fun z => by rw [z, hco] at hb; cases hb; omega) (by omega)
  refine ⟨x1.keep (fun b y t hb ht => hF0 b y t hb (by omega)), x2, fun e hee => ?_, fun n' a' b' hk' hno => ?_⟩
  · obtain ⟨n', a', b', k1, k2, k3, k4⟩ := x3 e hee
    have hs : isStr g w' e.2.1 (kchars n' a' b') := by
      obtain ⟨v, f, h0, m1, m2, m3⟩ := k3
      exact ⟨v, f, h0, hF0 _ _ _ m1 (by decide), hF0 _ _ _ m2 (by decide), m3⟩
    refine ⟨n', a', b', k1, k2, hs, ?_⟩
    by_cases hz : n' = n ∧ a' = a ∧ b' = b
    · obtain ⟨rfl, rfl, rfl⟩ := hz
      have : e = e0 := nd_map x1.1 hee he (k2.trans h1.symm)
      rw [this, hc]
      unfold ixAdd
      rw [if_pos ⟨rfl, rfl, rfl⟩, List.map_append]
      exact hL
    · unfold ixAdd
      rw [if_neg hz]
      have hne : e.2.2 ≠ c := fun z => by
        have : e = e0 := nd_map x2 hee he (z.trans hc.symm)
        rw [this, h1] at k2
        obtain ⟨q1, q2, q3⟩ := hkey_inj k1 hk k2.symm
        exact hz ⟨q1, q2, q3⟩
      refine k4.kept (fun b y t hb ht => hF b y t hb ?_ ?_)
      · intro z
        rcases ht with t1 | t1
        · exact hne (t1 ▸ z)
        · rw [z, hco] at hb
          cases hb
          omega
      · intro z
        rcases ht with t1 | t1
        · obtain ⟨fe, heo⟩ := k4.obj
          rw [t1, heo] at hb
          cases hb
          omega
        · omega
  · have : ¬ (n' = n ∧ a' = a ∧ b' = b) := fun z => by
      obtain ⟨rfl, rfl, rfl⟩ := z
      exact hno e0 he h1
    unfold ixAdd
    rw [if_neg this]
    exact x4 n' a' b' hk' hno
/-- a new key with an empty list -/
theorem isIX.new {mm c q : Nat} {E : List Dt} {IX : IXt} {P : Nat → Nat} {n a b : Nat} (h : isIX g w mm E IX P) (hk : isKey n a b) (hno : ∀ e, e ∈ E → e.1 ≠ hkey (kchars n a b)) (hM : isHM g w' mm ((hkey (kchars n a b), q, c) :: E)) (hs : isStr g w' q (kchars n a b)) (hL : isL g w' c 19 []) (hc : w c = none) (hF : ∀ b y t, w b = some (y, t) → t = 19 ∨ 1000 ≤ t → w' b = some (y, t)) (hS : ∀ b xs, isStr g w b xs → isStr g w' b xs) : isIX g w' mm ((hkey (kchars n a b), q, c) :: E) IX P := by
  obtain ⟨x1, x2, x3, x4⟩ := h
  have hkeep : ∀ l xs, isL g w l 19 xs → isL g w' l 19 xs := fun l xs hl => by
    obtain ⟨fs, hlo⟩ := hl.obj
    refine hl.kept (fun b y t hb ht => hF b y t hb ?_)
    rcases ht with rfl | rfl
    · rw [hlo] at hb
      cases hb
      exact Or.inl rfl
    · omega
  refine ⟨hM, ?_, fun e he => ?_, fun n' a' b' hk' hno' => x4 n' a' b' hk' (fun e he => hno' e (List.mem_cons_of_mem _ he))⟩
  · rw [List.map_cons, List.nodup_cons]
    refine ⟨fun z => ?_, x2⟩
    obtain ⟨e, he, ez⟩ := List.mem_map.mp z
    obtain ⟨_, _, _, _, _, _, k4⟩ := x3 e he
    obtain ⟨fs, ho⟩ := k4.obj
    rw [show e.2.2 = c from ez, hc] at ho
    cases ho
  · rcases List.mem_cons.mp he with rfl | he
    · refine ⟨n, a, b, hk, rfl, hs, ?_⟩
      rw [x4 n a b hk hno]
      exact hL
    · obtain ⟨n', a', b', k1, k2, k3, k4⟩ := x3 e he
      exact ⟨n', a', b', k1, k2, hS _ _ k3, hkeep _ _ k4⟩
theorem ixAdd_len {IX : IXt} {n a b i M : Nat} (h : ∀ n a b, (IX n a b).length ≤ M) : ∀ n' a' b', (ixAdd IX n a b i n' a' b').length ≤ M + 1 := fun n' a' b' => by
  unfold ixAdd
  have := h n' a' b'
  split
  · rw [List.length_append]
    exact Nat.succ_le_succ this
  · omega
theorem ixAdd_mem {IX : IXt} {n a b i : Nat} {V : Nat → Prop} (h : ∀ n a b j, j ∈ IX n a b → V j) (hi : V i) : ∀ n' a' b' j, j ∈ ixAdd IX n a b i n' a' b' → V j := fun n' a' b' j hj => by
  unfold ixAdd at hj
  split at hj
  · rcases List.mem_append.mp hj with hj | hj
    · exact h _ _ _ _ hj
    · rw [List.mem_singleton.mp hj]
      exact hi
  · exact h _ _ _ _ hj
/-- behind lay -/
def LayP (g : Gx) (w0 : Wd) (mm len : Nat) (IX : IXt) (P : Nat → Nat) : Option Value → Wd → Prop := fun o w => o = none ∧ ∃ E, E.length ≤ len ∧ isIX g w mm E IX P ∧ FrY w0 w
theorem lay_loop {S : St} {x : Cx} {a lq d mm li r k n hi i M len : Nat} {v : Value} {P : Nat → Nat} {V : Nat → Prop} {IXe : IXt} (ok : OK g x RX1 cX1_lay 5 10 none) (hQ : EndQ g x (LayP g w0 mm len IXe P) noX) (ha : w0 a = some (ob 0 [.ref lq, .ref d, .ref mm, .ref li, v], 10)) (hr : isRng w0 S k r) (e1 : S 11 k = nI n) (e3 : S 13 k = nI hi) (hn : n < 6) (hh : hi < 64) (hV : V i) (hP : ∀ j, V j → ∃ x y fd, w0 (P j) = some (ob 3 [x, y, .int fd], 16)) (hM : M < 100000) : ∀ (f at_ : Nat) (w : Wd) (E : List Dt) (IX : IXt) (l4 : Option Value), 64 ≤ at_ + f → at_ ≤ hi + 1 → layF hi n i f at_ IX = IXe → E.length + piecesN hi f at_ ≤ len → E.length + piecesN hi f at_ ≤ M → (∀ n a b, (IX n a b).length + piecesN hi f at_ ≤ M) → (∀ n a b j, j ∈ IX n a b → V j) → isIX g w mm E IX P → FrY w0 w → Z g x 5 5 [some (.ref a), some (.ref (P i)), some (.ref r), some (.int (nI at_)), l4] [] w (piecesN hi f at_ * (2 * M + 12)) (piecesN hi f at_ * (20 * M + 180)) := by
  intro f
  induction f with
  | zero =>
    intro at_ w E IX l4 hf h2 hIXe hlen hEM hIM hIV hX hF
    have hrw : isRng w S k r := hr.kept (fun b y hb => hF.1.1 b y 18 hb (Or.inl (by decide)))
    refine Z.iload_n ok dX1_lay_5 rfl ?_
    refine Z.aload_n ok dX1_lay_6 rfl (by first | exact isRf.r _ | exact isRf.n | exact isRf.v _ | assumption) ?_
    refine Z.callV (ci := 4) (q := (RX6, TX6, 3)) (C := RX6) ok (rngHigh_ct hrw) hrw rfl rfl q1207 q1208 (Or.inl q1209) q41 q1210 nk_X6_high rfl (by decide) (by first | exact Nat.le_of_ble_eq_true rfl | simp [Value.category, cat_rf]) (Nat.le_refl _) (Nat.le_refl _) dX1_lay_7 rfl ZX.no (fun v w1 hp => ?_)
    obtain ⟨rfl, rfl⟩ := hp
    rw [e3]
    refine Z.icmp_gt (tgt := 99) ok dX1_lay_10 (by decide) (fun _ => ?_) (fun hc => absurd (nI_lt (by omega) (by omega)) hc)
    refine Z.vret ok hQ rfl dX1_lay_99 ?_
    exact ⟨rfl, E, by omega, hIXe ▸ hX, hF⟩
  | succ f ih =>
    intro at_ w E IX l4 hf h2 hIXe hlen hEM hIM hIV hX hF
    have hrw : isRng w S k r := hr.kept (fun b y hb => hF.1.1 b y 18 hb (Or.inl (by decide)))
    have haw := hF.1.1 _ _ _ ha (Or.inl (by decide))
    by_cases hle : at_ ≤ hi
    · have hfit := pieceN_fit hle
      have hpos := pieceN_pos at_ hi
      have hkk : isKey n at_ (pieceN at_ hi) := isKey_piece hn (by omega)
      have hks := key_okS hkk
      unfold layF at hIXe
      rw [if_pos hle] at hIXe
      unfold piecesN at hlen hEM hIM ⊢
      rw [if_pos hle] at hlen hEM hIM ⊢
      have ihf := ih (at_ + pieceN at_ hi)
      generalize piecesN hi f (at_ + pieceN at_ hi) = N' at hlen hEM hIM ihf ⊢
      rw [Nat.succ_mul N' (2 * M + 12), Nat.succ_mul N' (20 * M + 180)]
      generalize hR1 : N' * (2 * M + 12) = R1 at ihf ⊢
      generalize hR2 : N' * (20 * M + 180) = R2 at ihf ⊢
      refine Z.room (kc' := R1 + 2 * M + 12) (ks' := R2 + 20 * M + 180) (by omega) (by omega) ?_
      refine Z.iload_n ok dX1_lay_5 rfl ?_
      refine Z.aload_n ok dX1_lay_6 rfl (by first | exact isRf.r _ | exact isRf.n | exact isRf.v _ | assumption) ?_
      refine Z.callV (ci := 4) (q := (RX6, TX6, 3)) (C := RX6) ok (rngHigh_ct hrw) hrw rfl rfl q1207 q1208 (Or.inl q1209) q41 q1210 nk_X6_high rfl (by decide) (by first | exact Nat.le_of_ble_eq_true rfl | simp [Value.category, cat_rf]) (Nat.le_refl _) (Nat.le_refl _) dX1_lay_7 rfl ZX.no (fun v w1 hp => ?_)
      obtain ⟨rfl, rfl⟩ := hp
      rw [e3]
      refine Z.icmp_gt (tgt := 99) ok dX1_lay_10 (by decide) (fun hc => absurd hc (nI_nlt hle (by omega))) (fun _ => ?_)
      refine Z.aload_n ok dX1_lay_13 rfl (by first | exact isRf.r _ | exact isRf.n | exact isRf.v _ | assumption) ?_
      refine Z.callV (ci := 4) (q := (RX6, TX6, 3)) (C := RX6) ok (rngName_ct hrw) hrw rfl rfl q1211 q220 (Or.inl q1636) q41 q222 nk_X6_name rfl (by decide) (by first | exact Nat.le_of_ble_eq_true rfl | simp [Value.category, cat_rf]) (Nat.le_refl _) (Nat.le_refl _) dX1_lay_14 rfl ZX.no (fun v w1 hp => ?_)
      obtain ⟨rfl, rfl⟩ := hp
      rw [e1]
      refine Z.iload_n ok dX1_lay_17 rfl ?_
      refine Z.iload_n ok dX1_lay_18 rfl ?_
      refine Z.aload_n ok dX1_lay_19 rfl (by first | exact isRf.r _ | exact isRf.n | exact isRf.v _ | assumption) ?_
      refine Z.callV (ci := 4) (q := (RX6, TX6, 3)) (C := RX6) ok (rngHigh_ct hrw) hrw rfl rfl q1207 q1208 (Or.inl q1209) q41 q1210 nk_X6_high rfl (by decide) (by first | exact Nat.le_of_ble_eq_true rfl | simp [Value.category, cat_rf]) (Nat.le_refl _) (Nat.le_refl _) dX1_lay_20 rfl ZX.no (fun v w1 hp => ?_)
      obtain ⟨rfl, rfl⟩ := hp
      rw [e3]
      refine Z.callS ok (piece_ctA at_ hi hle hh) q1212 q1213 q16 q1214 nk_X1_piece rfl (by decide) (by first | exact Nat.le_of_ble_eq_true rfl | simp [Value.category, cat_rf]) (Nat.le_refl _) (Nat.le_refl _) dX1_lay_23 rfl ZX.no (fun v w1 hp => ?_)
      obtain ⟨rfl, rfl⟩ := hp
      refine Z.callS (kc' := (R1+2*M+8)) (ks' := (R2+20*M+140)) ok (key_ct (n := n) (a := at_) (b := pieceN at_ hi) (by omega) (by omega) (by omega)) q256 q257 q16 q258 nk_X1_key rfl (by decide) (by first | exact Nat.le_of_ble_eq_true rfl | simp [Value.category, cat_rf]) (by omega) (by omega) dX1_lay_26 rfl ZX.no (fun v w1 hp => ?_)
      obtain ⟨q, rfl, -, hs1, hF1⟩ := hp
      have hX1 := hX.keep hF1.I
      have hY1 := hF.tr hF1.Y
      have ha1 := hY1.1.1 _ _ _ ha (Or.inl (by decide))
      obtain ⟨fm, hmo⟩ := hX1.1.obj
      have k64 : ∀ (w2 : Wd) (E2 : List Dt) (e0 : Dt), E2.length + N' ≤ len → E2.length + N' ≤ M → isIX g w2 mm E2 IX P → FrY w0 w2 → isStr g w2 q (kchars n at_ (pieceN at_ hi)) → e0 ∈ E2 → e0.1 = hkey (kchars n at_ (pieceN at_ hi)) → Z g x 5 64 [some (.ref a), some (.ref (P i)), some (.ref r), some (.int (nI at_)), some (.ref q)] [] w2 (R1 + 1) (R2 + 2 * M + 17) := by
        intro w2 E2 e0 hl2 hl3 hX2 hY2 hs2 he0 hh0
        have ha2 := hY2.1.1 _ _ _ ha (Or.inl (by decide))
        obtain ⟨fm2, hmo2⟩ := hX2.1.obj
        refine Z.aload_n ok dX1_lay_64 rfl (by first | exact isRf.r _ | exact isRf.n | exact isRf.v _ | assumption) ?_
        refine Z.get (ci := 0) (C := RX1) (T := TX1) (N := 5) ok ha2 rfl in_X1 2 (by decide) q124 (Or.inl rfl) (by rfl) dX1_lay_65 ?_
        refine Z.aload ok dX1_lay_68 rfl (by first | exact isRf.r _ | exact isRf.n | exact isRf.v _ | assumption) ?_
        refine Z.callF (ci := 7) (q := (RJ4, TJ4, 8)) (C := RJ4) ok (get_ct hX2.1 hs2 hks (fun e he hz => (hX2.hq hkk e he hz).1) (by omega)) hmo2 rfl rfl q575 ⟨q577, q576, q582, q580, q578⟩ q581 (Or.inl q579) q21 q583 nkF_Map_get rfl (by decide) (by first | exact Nat.le_of_ble_eq_true rfl | simp [Value.category, cat_rf]) (Nat.le_refl _) (Nat.le_refl _) dX1_lay_70 rfl ZX.no (fun v w3 hp => ?_)
        obtain ⟨hF3, -, o, rfl, ho1, ho2⟩ := hp
        cases o with
        | none => exact absurd hh0 (ho2 rfl e0 he0)
        | some c =>
          obtain ⟨e2, he2, hh2, hc2⟩ := ho1 c rfl
          have hX3 := hX2.keep hF3.I
          have hY3 := hY2.tr hF3.Y
          have hLc := (hX3.hq hkk e2 he2 hh2).2
          rw [hc2] at hLc
          obtain ⟨fc, hco⟩ := hLc.obj
          obtain ⟨p1, p2, p3, hpi⟩ := hP i hV
          obtain ⟨fd, hpi⟩ := hY3.1.2 _ _ _ _ hpi
          have hpe : ∀ y, y ∈ (IX n at_ (pieceN at_ hi)).map P → ∃ fs, w3 y = some (ob 3 fs, 16) := fun y hy => by
            obtain ⟨j, hj, rfl⟩ := List.mem_map.mp hy
            obtain ⟨z1, z2, z3, hz⟩ := hP j (hIV _ _ _ _ hj)
            obtain ⟨fd, hz⟩ := hY3.1.2 _ _ _ _ hz
            exact ⟨_, hz⟩
          have hlM := hIM n at_ (pieceN at_ hi)
          show Z g x 5 75 _ [.ref c] w3 _ _
          refine Z.castY (ci := 6) (q := (RJ2, TJ2, 3)) ok hco rfl q146 q936 dX1_lay_75 ?_
          refine Z.aload_n ok dX1_lay_78 rfl (by first | exact isRf.r _ | exact isRf.n | exact isRf.v _ | assumption) ?_
          refine Z.callF (kc' := R1) (ks' := R2) (ci := 6) (q := (RJ2, TJ2, 3)) (C := RJ2) ok (alistAdd_ct (ci := 3) (cv := 3) (v := P i) hLc (by decide) (by rw [List.length_map]; omega) rfl (q1648) (fun y hy => by obtain ⟨fs, hy⟩ := hpe y hy; exact ⟨fs, _, hy⟩) (fun z => by obtain ⟨fs, hy⟩ := hpe c z; rw [hco] at hy; cases hy) hpi (fun z => by rw [z, hco] at hpi; cases hpi) (by omega) rfl (q1648)) hco rfl rfl q1045 ⟨q1047, q1046, q1051, q1049, q146⟩ q1050 (Or.inl q1048) q19 q1052 nkF_List_add rfl (by decide) (by first | exact Nat.le_of_ble_eq_true rfl | simp [Value.category, cat_rf]) (by omega) (by rw [List.length_map]; omega) dX1_lay_79 rfl ZX.no (fun v w4 hp => ?_)
          obtain ⟨rfl, hL4, hF4⟩ := hp
          have hX4 := hX3.add (i := i) hkk he2 hh2 hc2 hL4 hF4
          have hY4 : FrY w0 w4 := hY3.tr (FrY.of (fun b y t hb hc => hF4 b y t hb (fun z => by
            rw [z, hco] at hb
            cases hb
            rcases hc with c1 | c1 | c1 | ⟨_, _, _, c1, _⟩ <;> omega) (fun z => by
            rcases hc with c1 | c1 | c1 | ⟨l, fs, tl, c1, c2, c3⟩ <;> try omega
            rw [show l = c by omega, hco] at c2
            cases c2
            omega)))
          have hrw4 : isRng w4 S k r := hr.kept (fun b y hb => hY4.1.1 b y 18 hb (Or.inl (by decide)))
          refine Z.pop ok dX1_lay_84 (by first | rfl | exact cat_rf _) ?_
          refine Z.iload_n ok dX1_lay_85 rfl ?_
          refine Z.iload_n ok dX1_lay_86 rfl ?_
          refine Z.aload_n ok dX1_lay_87 rfl (by first | exact isRf.r _ | exact isRf.n | exact isRf.v _ | assumption) ?_
          refine Z.callV (ci := 4) (q := (RX6, TX6, 3)) (C := RX6) ok (rngHigh_ct hrw4) hrw4 rfl rfl q1207 q1208 (Or.inl q1209) q41 q1210 nk_X6_high rfl (by decide) (by first | exact Nat.le_of_ble_eq_true rfl | simp [Value.category, cat_rf]) (Nat.le_refl _) (Nat.le_refl _) dX1_lay_88 rfl ZX.no (fun v w1 hp => ?_)
          obtain ⟨rfl, rfl⟩ := hp
          rw [e3]
          refine Z.callS ok (piece_ctA at_ hi hle hh) q1212 q1213 q16 q1214 nk_X1_piece rfl (by decide) (by first | exact Nat.le_of_ble_eq_true rfl | simp [Value.category, cat_rf]) (Nat.le_refl _) (Nat.le_refl _) dX1_lay_91 rfl ZX.no (fun v w1 hp => ?_)
          obtain ⟨rfl, rfl⟩ := hp
          refine Z.iadd ok dX1_lay_94 ?_
          refine Z.istore_n (i := 3) ok dX1_lay_95 rfl (by decide) ?_
          refine Z.goto (tgt := 5) ok dX1_lay_96 (by decide) ?_
          rw [nI_add]
          exact ihf w4 E2 (ixAdd IX n at_ (pieceN at_ hi) i) _ (by omega) (by omega) hIXe hl2 hl3 (fun n' a' b' => by have := ixAdd_len (i := i) (n := n) (a := at_) (b := pieceN at_ hi) (M := M - N' - 1) (IX := IX) (fun n a b => by have := hIM n a b; omega) n' a' b'; have := hIM n' a' b'; omega) (ixAdd_mem hIV hV) hX4 hY4
      refine Z.astore ok dX1_lay_29 (by decide) (by first | exact isRf.r _ | exact isRf.n | exact isRf.v _ | assumption) ?_
      refine Z.aload_n ok dX1_lay_31 rfl (by first | exact isRf.r _ | exact isRf.n | exact isRf.v _ | assumption) ?_
      refine Z.get (ci := 0) (C := RX1) (T := TX1) (N := 5) ok ha1 rfl in_X1 2 (by decide) q124 (Or.inl rfl) (by rfl) dX1_lay_32 ?_
      refine Z.aload ok dX1_lay_35 rfl (by first | exact isRf.r _ | exact isRf.n | exact isRf.v _ | assumption) ?_
      refine Z.callF (ci := 7) (q := (RJ4, TJ4, 8)) (C := RJ4) ok (contains_ct hX1.1 hs1 hks (fun e he hz => (hX1.hq hkk e he hz).1) (by omega)) hmo rfl rfl q1216 ⟨q1218, q1217, q1222, q1220, q578⟩ q1221 (Or.inl q1219) q21 q1223 nkF_Map_containsKey rfl (by decide) (by first | exact Nat.le_of_ble_eq_true rfl | simp [Value.category, cat_rf]) (Nat.le_refl _) (Nat.le_refl _) dX1_lay_37 rfl ZX.no (fun v w2 hp => ?_)
      obtain ⟨hF2, -, hb⟩ := hp
      have hX2 := hX1.keep hF2.I
      have hY2 := hY1.tr hF2.Y
      have hs2 := hF2.2 _ _ hs1
      have ha2 := hY2.1.1 _ _ _ ha (Or.inl (by decide))
      rcases hb with ⟨rfl, e0, he0, hh0⟩ | ⟨rfl, hno⟩
      · refine Z.if_ne (tgt := 64) ok dX1_lay_42 (by decide) (fun _ => ?_) (fun hc => absurd hc (by decide))
        refine Z.room (kc' := R1 + 1) (ks' := R2 + 2 * M + 17) (by omega) (by omega) ?_
        exact k64 w2 E e0 (by omega) (by omega) hX2 hY2 hs2 he0 hh0
      · refine Z.if_ne (tgt := 64) ok dX1_lay_42 (by decide) (fun hc => absurd (by decide) hc) (fun _ => ?_)
        obtain ⟨fm2, hmo2⟩ := hX2.1.obj
        refine Z.aload_n ok dX1_lay_45 rfl (by first | exact isRf.r _ | exact isRf.n | exact isRf.v _ | assumption) ?_
        refine Z.get (ci := 0) (C := RX1) (T := TX1) (N := 5) ok ha2 rfl in_X1 2 (by decide) q124 (Or.inl rfl) (by rfl) dX1_lay_46 ?_
        refine Z.aload ok dX1_lay_49 rfl (by first | exact isRf.r _ | exact isRf.n | exact isRf.v _ | assumption) ?_
        refine Z.room (kc' := (R1 + 2 * M + 7) + 1) (ks' := (R2 + 20 * M + 137) + 3) (by omega) (by omega) ?_
        refine Z.new (ci := 6) (C := RJ2) (T := TJ2) (N := 3) (fs := [.int 0, .null, .int 0]) (ty := tyJ2) 19 ok rfl in_J2 tyJ2_ok q63 q64 q19 (def_ok (by decide +kernel)) (Nat.le_refl _) (Nat.le_refl _) dX1_lay_51 (fun l hln hlA => ?_)
        refine Z.dup ok dX1_lay_54 (by first | rfl | exact cat_rf _) ?_
        refine Z.callI ok (alistInit2_ct ws_s (by decide)) q65 q66 q19 q67 rfl nk_J2_init rfl (by decide) (by first | exact Nat.le_of_ble_eq_true rfl | simp [Value.category, cat_rf]) (Nat.le_refl _) (Nat.le_refl _) dX1_lay_55 rfl ZX.no (fun v w3 hp => ?_)
        obtain ⟨rfl, hL3, hF3⟩ := hp
        have hK3 : ∀ b, w2 b ≠ none → w3 b = w2 b := fun b hb => by
          have : b ≠ l := fun z => hb (by rw [z]; exact hln)
          exact (hF3 b this).trans (ws_n this)
        have hK3' : ∀ b y t, w2 b = some (y, t) → w3 b = some (y, t) := fun b y t hb => (hK3 b (by rw [hb]; exact Option.some_ne_none _)).trans hb
        have hX3 := hX2.keep (w' := w3) ⟨fun b y t hb _ => hK3' b y t hb, fun b xs hs => by
          obtain ⟨v, f, h0, m1, m2, m3⟩ := hs
          exact ⟨v, f, h0, hK3' _ _ _ m1, hK3' _ _ _ m2, m3⟩⟩
        have hs3 : isStr g w3 q (kchars n at_ (pieceN at_ hi)) := by
          obtain ⟨v, f, h0, m1, m2, m3⟩ := hs2
          exact ⟨v, f, h0, hK3' _ _ _ m1, hK3' _ _ _ m2, m3⟩
        have hmo3 := hK3' _ _ _ hmo2
        refine Z.callF (kc' := (R1+1)) (ks' := (R2+2*M+17)) (ci := 7) (q := (RJ4, TJ4, 8)) (C := RJ4) ok (put_ct (vv := l) hX3.1 hs3 hks hno (by omega)) hmo3 rfl rfl q1225 ⟨q1227, q1226, q1231, q1229, q578⟩ q1230 (Or.inl q1228) q21 q1232 nkF_Map_put rfl (by decide) (by first | exact Nat.le_of_ble_eq_true rfl | simp [Value.category, cat_rf]) (by omega) (by omega) dX1_lay_58 rfl ZX.no (fun v w4 hp => ?_)
        obtain ⟨rfl, hM4, hF4⟩ := hp
        obtain ⟨fl, hlo3⟩ := hL3.obj
        have hL4 : isL g w4 l 19 [] := hL3.kept (fun b y t hb hc => hF4.1 b y t hb (by
          rcases hc with rfl | rfl
          · rw [hlo3] at hb; cases hb; omega
          · omega) (by
          rcases hc with rfl | rfl
          · rw [hlo3] at hb; cases hb; omega
          · omega) (by
          rcases hc with rfl | rfl
          · rw [hlo3] at hb; cases hb; omega
          · omega))
        have hX4 := hX2.new hkk hno hM4 (hF4.2 _ _ hs3) hL4 hln (fun b y t hb ht => hF4.1 b y t (hK3' b y t hb) (by omega) (by omega) (by omega)) (fun b xs hs => hF4.2 b xs (by
          obtain ⟨v, f, h0, m1, m2, m3⟩ := hs
          exact ⟨v, f, h0, hK3' _ _ _ m1, hK3' _ _ _ m2, m3⟩))
        have hY4 : FrY w0 w4 := hY2.tr ((FrY.mid (fun b y t hb _ => hK3' b y t hb)).tr hF4.Y)
        refine Z.pop ok dX1_lay_63 (by first | rfl | exact cat_rf _) ?_
        exact k64 w4 _ _ (by simp only [List.length_cons]; omega) (by simp only [List.length_cons]; omega) hX4 hY4 (hF4.2 _ _ hs3) List.mem_cons_self rfl
    · unfold layF at hIXe
      rw [if_neg hle] at hIXe
      unfold piecesN at hlen ⊢
      rw [if_neg hle] at hlen ⊢
      refine Z.iload_n ok dX1_lay_5 rfl ?_
      refine Z.aload_n ok dX1_lay_6 rfl (by first | exact isRf.r _ | exact isRf.n | exact isRf.v _ | assumption) ?_
      refine Z.callV (ci := 4) (q := (RX6, TX6, 3)) (C := RX6) ok (rngHigh_ct hrw) hrw rfl rfl q1207 q1208 (Or.inl q1209) q41 q1210 nk_X6_high rfl (by decide) (by first | exact Nat.le_of_ble_eq_true rfl | simp [Value.category, cat_rf]) (Nat.le_refl _) (Nat.le_refl _) dX1_lay_7 rfl ZX.no (fun v w1 hp => ?_)
      obtain ⟨rfl, rfl⟩ := hp
      rw [e3]
      refine Z.icmp_gt (tgt := 99) ok dX1_lay_10 (by decide) (fun _ => ?_) (fun hc => absurd (nI_lt (by omega) (by omega)) hc)
      refine Z.vret ok hQ rfl dX1_lay_99 ?_
      exact ⟨rfl, E, by omega, hIXe ▸ hX, hF⟩
theorem lay_ct {mc ms : Nat} {S : St} {a lq d mm li r k n lo hi i M : Nat} {v : Value} {P : Nat → Nat} {V : Nat → Prop} {IX : IXt} {E : List Dt} (ha : w0 a = some (ob 0 [.ref lq, .ref d, .ref mm, .ref li, v], 10)) (hr : isRng w0 S k r) (e1 : S 11 k = nI n) (e2 : S 12 k = nI lo) (e3 : S 13 k = nI hi) (hn : n < 6) (hl : lo ≤ hi) (hh : hi < 64) (hV : V i) (hP : ∀ j, V j → ∃ x y fd, w0 (P j) = some (ob 3 [x, y, .int fd], 16)) (hM : M < 100000) (hEM : E.length + piecesN hi 64 lo ≤ M) (hIM : ∀ n a b, (IX n a b).length + piecesN hi 64 lo ≤ M) (hIV : ∀ n a b j, j ∈ IX n a b → V j) (hX : isIX g w0 mm E IX P) (hmc : mc = piecesN hi 64 lo * (2 * M + 12)) (hms : ms = piecesN hi 64 lo * (20 * M + 180)) : Ct g yX1_lay cX1_lay 5 none 10 mc ms [.ref a, .ref (P i), .ref r] w0 (LayP g w0 mm (E.length + piecesN hi 64 lo) (layF hi n i 64 lo IX) P) noX := by
  refine Ct.of RX1 "lay" ⟨rfl, rfl⟩ (by decide +kernel) (by simp [Value.category] <;> exact cat_rf _) (Nat.le_of_ble_eq_true rfl) (fun x ok hQ hN => ?_)
  show Z g x 5 0 [some (.ref a), some (.ref (P i)), some (.ref r), none, none] [] w0 mc ms
  subst hmc hms
  refine Z.aload_n ok dX1_lay_0 rfl (by first | exact isRf.r _ | exact isRf.n | exact isRf.v _ | assumption) ?_
  refine Z.callV (ci := 4) (q := (RX6, TX6, 3)) (C := RX6) ok (rngLow_ct hr) hr rfl rfl q1203 q1204 (Or.inl q1205) q41 q1206 nk_X6_low rfl (by decide) (by first | exact Nat.le_of_ble_eq_true rfl | simp [Value.category, cat_rf]) (Nat.le_refl _) (Nat.le_refl _) dX1_lay_1 rfl ZX.no (fun v w1 hp => ?_)
  obtain ⟨rfl, rfl⟩ := hp
  rw [e2]
  refine Z.istore_n (i := 3) ok dX1_lay_4 rfl (by decide) ?_
  exact lay_loop (w0 := w0) ok hQ ha hr e1 e3 hn hh hV hP hM 64 lo w0 E IX _ (by omega) (by omega) rfl (Nat.le_refl _) hEM hIM hIV hX FrY.rf
end LAY
