/-! ===== ALERTINDEX: count ===== -/
section COUNT
variable {g : Gx} {w w' w0 : Wd} {S : St}
def updF (F : Nat → Int32) (i : Nat) (z : Int32) : Nat → Int32 := fun j => if j = i then z else F j
/-- products' found -/
def prF (w : Wd) (S : St) (P LT : Nat → Nat) (F : Nat → Int32) : Prop := ∀ i, vP S i → w (P i) = some (ob 3 [.ref (LT i), .int (nI (i / 3)), .int (F i)], 16)
/-- the whole state, with products' found -/
def FM (g : Gx) (w0 w : Wd) (a : Nat) (S : St) (lq d mm li : Nat) (qs : List Nat) (LQ P LT : Nat → Nat) (X : List Nat) (E : List Dt) (IX : IXt) (F : Nat → Int32) : Prop := isBs g w a S lq d mm li qs LQ P LT X ∧ isIX g w mm E IX P ∧ prF w S P LT F ∧ FrO w0 w
theorem isBs.fd {a lq d mm li : Nat} {qs : List Nat} {LQ P LT : Nat → Nat} {X : List Nat} (h : isBs g w a S lq d mm li qs LQ P LT X) : ∃ F, prF w S P LT F := by
  have hp := h.2.2.2.2.2.2.2.1
  have : ∀ i, ∃ fd : Int32, vP S i → w (P i) = some (ob 3 [.ref (LT i), .int (nI (i / 3)), .int fd], 16) := fun i => by
    by_cases hv : vP S i
    · obtain ⟨fd, ts, k1, -⟩ := hp i hv
      exact ⟨fd, fun _ => k1⟩
    · exact ⟨0, fun z => absurd z hv⟩
  exact ⟨fun i => Classical.choose (this i), fun i hv => Classical.choose_spec (this i) hv⟩
theorem FrX.found {q : Nat} {x y : Value} {fd fd' : Int32} (h : w q = some (ob 3 [x, y, .int fd], 16)) : FrX w (wset w q (ob 3 [x, y, .int fd']) 16) := ⟨fun b e t hb hc => by
  rw [ws_n (fun z => by
    rw [z, h] at hb
    cases hb
    rcases hc with c | ⟨_, _, _, c, _⟩ <;> omega)]
  exact hb, fun b x' y' f hb => by
  by_cases z : b = q
  · rw [z, h] at hb
    cases hb
    rw [z]
    exact ⟨fd', ws_s⟩
  · exact ⟨f, (ws_n z).trans hb⟩⟩
theorem FM.inc {a lq d mm li : Nat} {qs : List Nat} {LQ P LT : Nat → Nat} {X : List Nat} {E : List Dt} {IX : IXt} {F : Nat → Int32} (h : FM g w0 w a S lq d mm li qs LQ P LT X E IX F) {i : Nat} (hv : vP S i) (z : Int32) : FM g w0 (wset w (P i) (ob 3 [.ref (LT i), .int (nI (i / 3)), .int z]) 16) a S lq d mm li qs LQ P LT X E IX (updF F i z) := by
  obtain ⟨hB, hX, hF, hO⟩ := h
  have hi := hF i hv
  have ho : ∀ b y t, w b = some (y, t) → t ≠ 16 → wset w (P i) (ob 3 [.ref (LT i), .int (nI (i / 3)), .int z]) 16 b = some (y, t) := fun b y t hb ht => (ws_n (fun e => by rw [e, hi] at hb; cases hb; exact ht rfl)).trans hb
  refine ⟨hB.frX (FrX.found hi), hX.keep ⟨fun b y t hb hc => ho b y t hb (by rcases hc with c | c | c | ⟨_, _, c, _⟩ <;> omega), fun b xs hs => ?_⟩, fun j hj => ?_, fun b y t hb hc => ho b y t (hO b y t hb hc) (by omega)⟩
  · obtain ⟨v, f, h0, m1, m2, m3⟩ := hs
    exact ⟨v, f, h0, ho _ _ _ m1 (by decide), ho _ _ _ m2 (by decide), m3⟩
  · by_cases e : j = i
    · rw [e]
      unfold updF
      rw [if_pos rfl]
      exact ws_s
    · unfold updF
      rw [if_neg e, ws_n (fun c => e (hB.2.2.2.2.2.2.2.2.2.1 j i hj hv c))]
      exact hF j hj
/-- under a step that leaves both parts -/
theorem FM.fr {a lq d mm li : Nat} {qs : List Nat} {LQ P LT : Nat → Nat} {X : List Nat} {E : List Dt} {IX : IXt} {F : Nat → Int32} (h : FM g w0 w a S lq d mm li qs LQ P LT X E IX F) (hI : FrI g w w') (hM : ∀ b y t, w b = some (y, t) → t < 4 ∨ 8 < t → w' b = some (y, t)) : FM g w0 w' a S lq d mm li qs LQ P LT X E IX F := by
  obtain ⟨hB, hX, hF, hO⟩ := h
  have hY := FrY.mid hM
  exact ⟨hB.frX hY.1, hX.keep hI, fun i hi => hM _ _ _ (hF i hi) (by decide), hO.tr hY.2⟩
theorem FM.frS {a lq d mm li : Nat} {qs : List Nat} {LQ P LT : Nat → Nat} {X : List Nat} {E : List Dt} {IX : IXt} {F : Nat → Int32} (h : FM g w0 w a S lq d mm li qs LQ P LT X E IX F) (hI : FrS w w') : FM g w0 w' a S lq d mm li qs LQ P LT X E IX F := h.fr hI.I (fun b y t hb ht => hI b y t hb (by omega) (by omega))
theorem FM.frK {a lq d mm li : Nat} {qs : List Nat} {LQ P LT : Nat → Nat} {X : List Nat} {E : List Dt} {IX : IXt} {F : Nat → Int32} (h : FM g w0 w a S lq d mm li qs LQ P LT X E IX F) (hI : FrK g w w') : FM g w0 w' a S lq d mm li qs LQ P LT X E IX F := h.fr hI.I (fun b y t hb ht => hI.1 b y t hb (by omega))
def cS (IX : IXt) (n v i : Nat) : Nat → Nat
  | 0 => 0
  | j + 1 => cS IX n v i j + (IX n (v - v % 2 ^ j) (2 ^ j)).count i
theorem cS_7 (IX : IXt) (n v i : Nat) : cS IX n v i 7 = s7 (fun m => (IX n (v - v % m) m).count i) := by
  simp only [cS, s7, Nat.reducePow]
  omega
theorem isKey_cnt {n v j : Nat} (hn : n < 6) (hv : v < 64) (hj : j < 7) : isKey n (v - v % 2 ^ j) (2 ^ j) := by
  refine ⟨hn, by omega, j, hj, rfl, ?_⟩
  have h1 := Nat.div_add_mod v (2 ^ j)
  have : v - v % 2 ^ j = 2 ^ j * (v / 2 ^ j) := by omega
  rw [this]
  exact Nat.mul_mod_right _ _
theorem two_le64 {j : Nat} (h : j < 7) : 0 < 2 ^ j ∧ 2 ^ j ≤ 64 := ⟨Nat.two_pow_pos j, Nat.pow_le_pow_right (by decide) (show j ≤ 6 by omega)⟩
theorem cnt_in {x : Cx} {a lq d mm li n v m c : Nat} {qs : List Nat} {LQ P LT : Nat → Nat} {X : List Nat} {E : List Dt} {IX : IXt} {F : Nat → Int32} {Lk : List Nat} {kc ks : Nat} (ok : OK g x RX1 cX1_count 6 8 none) (hkk : isKey n m (2 ^ v)) (hV : ∀ j, j ∈ IX n m (2 ^ v) → vP S j) (hln : (IX n m (2 ^ v)).length < 100000) {e0 : Dt} (he : e0 ∈ E) (hh : e0.1 = hkey (kchars n m (2 ^ v))) (hc : e0.2.2 = c) {l1 l2 l3 : Option Value} (kont : ∀ (w : Wd) (l4 l5 : Option Value), FM g w0 w a S lq d mm li qs LQ P LT X E IX (fun i => F i + nI ((IX n m (2 ^ v)).count i)) → Z g x 6 79 [some (.ref a), l1, l2, l3, l4, l5] [] w kc ks) : ∀ (f k : Nat) (w : Wd), k + f = (IX n m (2 ^ v)).length → FM g w0 w a S lq d mm li qs LQ P LT X E IX (fun i => F i + nI (((IX n m (2 ^ v)).take k).count i)) → Z g x 6 35 [some (.ref a), l1, l2, l3, some (.ref c), some (.int (nI k))] [] w kc ks := by
  intro f
  induction f with
  | zero =>
    intro k w hk h
    have hLc := (h.2.1.hq hkk e0 he hh).2
    rw [hc] at hLc
    obtain ⟨fc, hco⟩ := hLc.obj
    refine Z.aload ok dX1_count_35 rfl (by first | exact isRf.r _ | exact isRf.n | exact isRf.v _ | assumption) ?_
    refine Z.ifnullR ok dX1_count_37 ?_
    refine Z.iload ok dX1_count_40 rfl ?_
    refine Z.aload ok dX1_count_42 rfl (by first | exact isRf.r _ | exact isRf.n | exact isRf.v _ | assumption) ?_
    refine Z.callF (ci := 6) (q := (RJ2, TJ2, 3)) (C := RJ2) ok (alistSize_ct hLc) hco rfl rfl q143 ⟨q145, q144, q150, q148, q146⟩ q149 (Or.inl q147) q19 q151 nkF_List_size rfl (by decide) (by first | exact Nat.le_of_ble_eq_true rfl | simp [Value.category, cat_rf]) (Nat.le_refl _) (Nat.le_refl _) dX1_count_44 rfl ZX.no (fun v w1 hr => ?_)
    obtain ⟨rfl, rfl⟩ := hr
    rw [List.length_map]
    refine Z.icmp_ge (tgt := 79) ok dX1_count_49 (by decide) (fun _ => ?_) (fun hc => absurd (nI_le (by omega) (by omega)) hc)
    refine kont w _ _ ?_
    rw [List.take_of_length_le (by omega)] at h
    exact h
  | succ f ih =>
    intro k w hk h
    have hLc := (h.2.1.hq hkk e0 he hh).2
    rw [hc] at hLc
    obtain ⟨fc, hco⟩ := hLc.obj
    have hkl : k < (IX n m (2 ^ v)).length := by omega
    have hgk := List.getElem?_eq_getElem hkl
    generalize (IX n m (2 ^ v))[k] = i at hgk
    have hv : vP S i := hV i (List.mem_of_getElem? hgk)
    have hpi := h.2.2.1 i hv
    refine Z.aload ok dX1_count_35 rfl (by first | exact isRf.r _ | exact isRf.n | exact isRf.v _ | assumption) ?_
    refine Z.ifnullR ok dX1_count_37 ?_
    refine Z.iload ok dX1_count_40 rfl ?_
    refine Z.aload ok dX1_count_42 rfl (by first | exact isRf.r _ | exact isRf.n | exact isRf.v _ | assumption) ?_
    refine Z.callF (ci := 6) (q := (RJ2, TJ2, 3)) (C := RJ2) ok (alistSize_ct hLc) hco rfl rfl q143 ⟨q145, q144, q150, q148, q146⟩ q149 (Or.inl q147) q19 q151 nkF_List_size rfl (by decide) (by first | exact Nat.le_of_ble_eq_true rfl | simp [Value.category, cat_rf]) (Nat.le_refl _) (Nat.le_refl _) dX1_count_44 rfl ZX.no (fun v w1 hr => ?_)
    obtain ⟨rfl, rfl⟩ := hr
    rw [List.length_map]
    refine Z.icmp_ge (tgt := 79) ok dX1_count_49 (by decide) (fun hc => absurd hc (nI_ge (by omega) (by omega))) (fun _ => ?_)
    refine Z.aload ok dX1_count_52 rfl (by first | exact isRf.r _ | exact isRf.n | exact isRf.v _ | assumption) ?_
    refine Z.iload ok dX1_count_54 rfl ?_
    refine Z.callF (ci := 6) (q := (RJ2, TJ2, 3)) (C := RJ2) ok (alistGet_ct (y := P i) hLc (by rw [List.getElem?_map, hgk]; rfl) (by rw [List.length_map]; omega)) hco rfl rfl q153 ⟨q155, q154, q159, q157, q146⟩ q158 (Or.inl q156) q19 q160 nkF_List_get rfl (by decide) (by first | exact Nat.le_of_ble_eq_true rfl | simp [Value.category, cat_rf]) (Nat.le_refl _) (Nat.le_refl _) dX1_count_56 rfl ZX.no (fun v w1 hr => ?_)
    obtain ⟨rfl, rfl⟩ := hr
    refine Z.castS (ci := 3) (q := (RX4, TX4, 3)) ok hpi rfl rfl q251 dX1_count_61 ?_
    refine Z.dup ok dX1_count_64 (by first | rfl | exact cat_rf _) ?_
    refine Z.get (ci := 3) (C := RX4) (T := TX4) (N := 3) ok hpi rfl in_X4 2 (by decide) q1137 (Or.inl rfl) (by rfl) dX1_count_65 ?_
    refine Z.iconst_1 ok dX1_count_68 ?_
    refine Z.iadd ok dX1_count_69 ?_
    have h2 := h.inc hv ((F i + nI (((IX n m (2 ^ v)).take k).count i)) + 1)
    refine Z.put (ci := 3) (C := RX4) (T := TX4) (N := 3) (ty0 := tyX4) ok hpi (by first | decide | assumption) rfl in_X4 tyX4_ok nmX4 2 (by decide) q1137 (Or.inl rfl) rfl (okV_i _) (by rfl) dX1_count_70 ?_
    have e3 : nI k + Int32.ofInt 1 = nI (k + 1) := nI_1 k
    have hF : updF (fun i => F i + nI (((IX n m (2 ^ v)).take k).count i)) i ((F i + nI (((IX n m (2 ^ v)).take k).count i)) + 1) = fun i => F i + nI (((IX n m (2 ^ v)).take (k + 1)).count i) := by
      funext j
      rw [List.take_succ, hgk]
      unfold updF
      by_cases e : j = i
      · rw [if_pos e, e, List.count_append, Option.toList_some, List.count_singleton_self, ← nI_1, Int32.add_assoc]
      · rw [if_neg e, List.count_append, Option.toList_some, List.count_singleton, if_neg (by simpa using Ne.symm e)]
        rfl
    rw [hF] at h2
    refine Z.iinc ok dX1_count_73 rfl rfl ?_
    refine Z.goto (tgt := 35) ok dX1_count_76 (by decide) ?_
    have hz := ih (k + 1) _ (by omega) h2
    rw [← e3] at hz
    exact hz
theorem cnt_loop {x : Cx} {a lq d mm li n v : Nat} {qs : List Nat} {LQ P LT : Nat → Nat} {X : List Nat} {E : List Dt} {IX : IXt} {F : Nat → Int32} (ok : OK g x RX1 cX1_count 6 8 none) (hQ : EndQ g x (fun o w' => o = none ∧ FM g w0 w' a S lq d mm li qs LQ P LT X E IX (fun i => F i + nI (cS IX n v i 7))) noX) (hn : n < 6) (hv : v < 64) (hE : E.length < 100000) (hV : ∀ n a b j, j ∈ IX n a b → vP S j) (hln : ∀ n a b, (IX n a b).length < 100000) : ∀ (f j : Nat) (w : Wd) (l4 l5 : Option Value), j + f = 7 → FM g w0 w a S lq d mm li qs LQ P LT X E IX (fun i => F i + nI (cS IX n v i j)) → Z g x 6 2 [some (.ref a), some (.int (nI n)), some (.int (nI v)), some (.int (nI (2 ^ j))), l4, l5] [] w (f * 4) (f * 40) := by
  intro f
  induction f with
  | zero =>
    intro j w l4 l5 hj h
    have ej : j = 7 := by omega
    subst ej
    refine Z.iload_n ok dX1_count_2 rfl ?_
    refine Z.bipush (v := 64) ok dX1_count_3 (by decide) ?_
    refine Z.icmp_gt (tgt := 86) ok dX1_count_5 (by decide) (fun _ => ?_) (fun hc => absurd (show nI 64 < nI (2 ^ 7) by decide) hc)
    refine Z.vret ok hQ rfl dX1_count_86 ?_
    exact ⟨rfl, h⟩
  | succ f ih =>
    intro j w l4 l5 hj h
    obtain ⟨t1, t2⟩ := two_le64 (j := j) (by omega)
    have hkk := isKey_cnt hn hv (show j < 7 by omega)
    have hmod := Nat.mod_le v (2 ^ j)
    refine Z.iload_n ok dX1_count_2 rfl ?_
    refine Z.bipush (v := 64) ok dX1_count_3 (by decide) ?_
    refine Z.icmp_gt (tgt := 86) ok dX1_count_5 (by decide) (fun hc => absurd hc (nI_nlt t2 (by decide))) (fun _ => ?_)
    refine Z.aload_n ok dX1_count_8 rfl (by first | exact isRf.r _ | exact isRf.n | exact isRf.v _ | assumption) ?_
    refine Z.get (ci := 0) (C := RX1) (T := TX1) (N := 5) ok h.1.1 rfl in_X1 2 (by decide) q124 (Or.inl rfl) (by rfl) dX1_count_9 ?_
    refine Z.iload_n ok dX1_count_12 rfl ?_
    refine Z.iload_n ok dX1_count_13 rfl ?_
    refine Z.iload_n ok dX1_count_14 rfl ?_
    refine Z.iload_n ok dX1_count_15 rfl ?_
    refine Z.irem ok dX1_count_16 (nI_ne0 t1 (by omega)) ?_
    rw [pk_rem (by omega) t1 (by omega)]
    refine Z.isub ok dX1_count_17 ?_
    refine Z.iload_n ok dX1_count_18 rfl ?_
    have es : nI v - nI (v % 2 ^ j) = nI (v - v % 2 ^ j) := by
      have e : nI v = nI (v - v % 2 ^ j) + nI (v % 2 ^ j) := by rw [nI_add, Nat.sub_add_cancel hmod]
      rw [e, Int32.add_sub_cancel]
    rw [es]
    refine Z.callS (kc' := (f*4)) (ks' := (f*40)) ok (key_ct (n := n) (a := v - v % 2 ^ j) (b := 2 ^ j) (by omega) (by omega) (by omega)) q256 q257 q16 q258 nk_X1_key rfl (by decide) (by first | exact Nat.le_of_ble_eq_true rfl | simp [Value.category, cat_rf]) (by omega) (by omega) dX1_count_19 rfl ZX.no (fun v w1 hp => ?_)
    obtain ⟨q, rfl, -, hs1, hF1⟩ := hp
    have h1 := h.frS hF1
    obtain ⟨fm, hmo⟩ := h1.2.1.1.obj
    refine Z.callF (ci := 7) (q := (RJ4, TJ4, 8)) (C := RJ4) ok (get_ct h1.2.1.1 hs1 (key_okS hkk) (fun e he hz => (h1.2.1.hq hkk e he hz).1) (by omega)) hmo rfl rfl q575 ⟨q577, q576, q582, q580, q578⟩ q581 (Or.inl q579) q21 q583 nkF_Map_get rfl (by decide) (by first | exact Nat.le_of_ble_eq_true rfl | simp [Value.category, cat_rf]) (Nat.le_refl _) (Nat.le_refl _) dX1_count_22 rfl ZX.no (fun v w2 hp => ?_)
    obtain ⟨hF2, -, o, rfl, ho1, ho2⟩ := hp
    have h2 := h1.frK hF2
    have nx : ∀ (w : Wd) (l4 l5 : Option Value), FM g w0 w a S lq d mm li qs LQ P LT X E IX (fun i => F i + nI (cS IX n v i j) + nI ((IX n (v - v % 2 ^ j) (2 ^ j)).count i)) → Z g x 6 79 [some (.ref a), some (.int (nI n)), some (.int (nI v)), some (.int (nI (2 ^ j))), l4, l5] [] w (f * 4) (f * 40) := by
      intro w l4 l5 h3
      have e : (fun i => F i + nI (cS IX n v i j) + nI ((IX n (v - v % 2 ^ j) (2 ^ j)).count i)) = fun i => F i + nI (cS IX n v i (j + 1)) := by
        funext i
        rw [cS, Int32.add_assoc, nI_add]
      rw [e] at h3
      have hz := ih (j + 1) w l4 l5 (by omega) h3
      rw [Nat.pow_succ] at hz
      have e2 : nI (2 ^ j * 2) = nI (2 ^ j) * 2 := Int32.ofNat_mul (2 ^ j) 2
      rw [e2] at hz
      refine Z.iload_n ok dX1_count_79 rfl ?_
      refine Z.iconst_2 ok dX1_count_80 ?_
      refine Z.imul ok dX1_count_81 ?_
      refine Z.istore_n (i := 3) ok dX1_count_82 rfl (by decide) ?_
      refine Z.goto (tgt := 2) ok dX1_count_83 (by decide) ?_
      exact hz
    cases o with
    | none =>
      show Z g x 6 27 _ [.null] w2 _ _
      refine Z.castN ok dX1_count_27 ?_
      refine Z.astore ok dX1_count_30 (by decide) (by first | exact isRf.r _ | exact isRf.n | exact isRf.v _ | assumption) ?_
      refine Z.iconst_0 ok dX1_count_32 ?_
      refine Z.istore ok dX1_count_33 (by decide) ?_
      refine Z.aload ok dX1_count_35 rfl (by first | exact isRf.r _ | exact isRf.n | exact isRf.v _ | assumption) ?_
      refine Z.ifnullN (tgt := 79) ok dX1_count_37 (by decide) ?_
      refine nx w2 _ _ ?_
      rw [h2.2.1.2.2.2 _ _ _ hkk (ho2 rfl)]
      have e : (fun i => F i + nI (cS IX n v i j) + nI (([] : List Nat).count i)) = fun i => F i + nI (cS IX n v i j) := by
        funext i
        rw [List.count_nil]
        exact Int32.add_zero _
      rw [e]
      exact h2
    | some c =>
      obtain ⟨e0, he0, hh0, hc0⟩ := ho1 c rfl
      have hLc := (h2.2.1.hq hkk e0 he0 hh0).2
      rw [hc0] at hLc
      obtain ⟨fc, hco⟩ := hLc.obj
      show Z g x 6 27 _ [.ref c] w2 _ _
      refine Z.castY (ci := 6) (q := (RJ2, TJ2, 3)) ok hco rfl q146 q936 dX1_count_27 ?_
      refine Z.astore ok dX1_count_30 (by decide) (by first | exact isRf.r _ | exact isRf.n | exact isRf.v _ | assumption) ?_
      refine Z.iconst_0 ok dX1_count_32 ?_
      refine Z.istore ok dX1_count_33 (by decide) ?_
      refine cnt_in (F := fun i => F i + nI (cS IX n v i j)) (Lk := []) ok hkk (fun j hj => hV _ _ _ j hj) (hln _ _ _) he0 hh0 hc0 nx _ 0 w2 (Nat.zero_add _) ?_
      have e : (fun i => F i + nI (cS IX n v i j) + nI (((IX n (v - v % 2 ^ j) (2 ^ j)).take 0).count i)) = fun i => F i + nI (cS IX n v i j) := by
        funext i
        rw [List.take_zero, List.count_nil]
        exact Int32.add_zero _
      rw [e]
      exact h2
theorem count_ct {a lq d mm li n v : Nat} {qs : List Nat} {LQ P LT : Nat → Nat} {X : List Nat} {E : List Dt} {IX : IXt} {F : Nat → Int32} (hn : n < 6) (hv : v < 64) (hE : E.length < 100000) (hV : ∀ n a b j, j ∈ IX n a b → vP S j) (hln : ∀ n a b, (IX n a b).length < 100000) (h : FM g w0 w a S lq d mm li qs LQ P LT X E IX F) : Ct g yX1_count cX1_count 6 none 8 28 280 [.ref a, .int (nI n), .int (nI v)] w (fun o w' => o = none ∧ FM g w0 w' a S lq d mm li qs LQ P LT X E IX (fun i => F i + nI (cS IX n v i 7))) noX := by
  refine Ct.of RX1 "count" ⟨rfl, rfl⟩ (by decide +kernel) (by simp [Value.category] <;> exact cat_rf _) (Nat.le_of_ble_eq_true rfl) (fun x ok hQ hN => ?_)
  show Z g x 6 0 [some (.ref a), some (.int (nI n)), some (.int (nI v)), none, none, none] [] w 28 280
  refine Z.iconst_1 ok dX1_count_0 ?_
  refine Z.istore_n (i := 3) ok dX1_count_1 rfl (by decide) ?_
  refine cnt_loop ok hQ hn hv hE hV hln 7 0 w _ _ rfl ?_
  have e : (fun i => F i + nI (cS IX n v i 0)) = F := by
    funext i
    exact Int32.add_zero _
  rw [e]
  exact h
end COUNT
