/-! ===== THE LAW's LOOP (printed by tools/mk84.py) ===== -/
section LAWL
variable {g : Gx} {w w1 w' : Wd} {S S' : St}
theorem Z.lcmpE {x : Cx} {own : String} {cc : ByteArray} {nL lv : Nat} {rt : Option FieldType} {pc : Nat} {L : List (Option Value)} {st : List Value} {kc ks : Nat} {v : Int64} (ok : OK g x own cc nL lv rt) (hd : decode cc pc = .ok (.lcmp, 1)) (kk : Z g x nL (pc + 1) L (.int 0 :: st) w kc ks) : Z g x nL pc L (.long v :: .long v :: st) w kc ks := by
  obtain ⟨p, e, R, s, m, args, below, meth, c, Q⟩ := x
  obtain ⟨hx, hb, hml, hown, hts, hK, hlk, hret, hfr, hlo, hs1, hs2⟩ := ok
  intro H locs ls cells slots h1 h2 hG hS hP T hT X
  obtain ⟨t, a, b⟩ := kk H locs ls cells slots h1 h2 hG hS hP T hT X
  refine ⟨t, ?_, b⟩
  have hno : ¬ v > v := Int64.lt_irrefl
  jvm_step X.here [X.here.top, hx, hb, hd]
  first | exact a | (rw [if_neg hno, if_pos rfl]; exact a) | (simp only [hno, if_false, if_true]; exact a)
/-- the script: it lies in the law's first heap -/
def SX (g : Gx) (x : Cx) (b Ls : Nat) (xs : Nat → Int32) : Prop :=
  match x with
  | (_, _, _, s, _, _, _, _, _, _) => va_X b Ls xs s (gH g) ∧ b < (gH g).size
theorem Z.sld {x : Cx} {own : String} {cc : ByteArray} {nL lv : Nat} {rt : Option FieldType} {pc : Nat} {L : List (Option Value)} {st : List Value} {kc ks b Ls : Nat} {xs : Nat → Int32} {i : Int32} (ok : OK g x own cc nL lv rt) (hX : SX g x b Ls xs) (hin : vp_in i Ls) (hd : decode cc pc = .ok (.iaload, 1)) (kk : Z g x nL (pc + 1) L (.int (xs i.toNatClampNeg) :: st) w kc ks) : Z g x nL pc L (.int i :: .ref b :: st) w kc ks := by
  obtain ⟨p, e, R, s, m, args, below, meth, c, Q⟩ := x
  obtain ⟨hx, hb, hml, hown, hts, hK, hlk, hret, hfr, hlo, hs1, hs2⟩ := ok
  obtain ⟨hX, hbl⟩ := hX
  intro H locs ls cells slots h1 h2 hG hS hP
  exact va_sld hx hb (hX.kept (hs2 b hbl)) (Nat.lt_of_lt_of_le hbl hs1) (Nat.not_le.mpr hbl) hS hin hd (kk H locs ls cells slots h1 h2 hG hS hP)
theorem Z.slen {x : Cx} {own : String} {cc : ByteArray} {nL lv : Nat} {rt : Option FieldType} {pc : Nat} {L : List (Option Value)} {st : List Value} {kc ks b Ls : Nat} {xs : Nat → Int32} (ok : OK g x own cc nL lv rt) (hX : SX g x b Ls xs) (hd : decode cc pc = .ok (.arraylength, 1)) (kk : Z g x nL (pc + 1) L (.int (nI Ls) :: st) w kc ks) : Z g x nL pc L (.ref b :: st) w kc ks := by
  obtain ⟨p, e, R, s, m, args, below, meth, c, Q⟩ := x
  obtain ⟨hx, hb, hml, hown, hts, hK, hlk, hret, hfr, hlo, hs1, hs2⟩ := ok
  obtain ⟨hX, hbl⟩ := hX
  intro H locs ls cells slots h1 h2 hG hS hP
  exact va_slen hx hb (hX.kept (hs2 b hbl)) (Nat.lt_of_lt_of_le hbl hs1) (Nat.not_le.mpr hbl) hS hd (kk H locs ls cells slots h1 h2 hG hS hP)
/-- a place of the script -/
theorem Z.scr {x : Cx} {own : String} {cc : ByteArray} {nL lv : Nat} {rt : Option FieldType} {pc : Nat} {L : List (Option Value)} {st : List Value} {kc ks b Ls j K : Nat} {xs : Nat → Int32} {cv : Int32} (ok : OK g x own cc nL lv rt) (hX : SX g x b Ls xs) (hj : 6 * j + K < Ls) (hL : Ls ≤ 384) (hc : cv = nI K) (hd : decode cc pc = .ok (.iaload, 1)) (kk : Z g x nL (pc + 1) L (.int (xs (6 * j + K)) :: st) w kc ks) : Z g x nL pc L (.int (nI (6 * j) + cv) :: .ref b :: st) w kc ks := by
  rw [hc, nI_add]
  refine Z.sld ok hX (vp_in_nI hj (by omega)) hd ?_
  rw [nI_clamp (by omega)]
  exact kk
/-- the law's invariant at N calls: class's object a, reference m, out -/
def LI (g : Gx) (w : Wd) (a m ou : Nat) (ad : Nat → Nat) (S : St) (N : Nat) (th : Int32) : Prop := FS g w a S N ∧ Inv S N ∧ MR g w m ad S th ∧ ∃ f, w ou = some (eJ g 1 f, 3)
theorem FS.frM {a N : Nat} (h : FS g w a S N) (hF : FrM w w') : FS g w' a S N := h.out (fun b y t hb hc => hF b y t hb (by unfold isM; omega))
theorem MR.frR {m : Nat} {ad : Nat → Nat} {th : Int32} (h : MR g w m ad S th) (hF : ∀ b y t, w b = some (y, t) → t ≤ 2 ∨ (20 ≤ t ∧ t < 1000) → w' b = some (y, t)) : MR g w' m ad S th := ⟨hF _ _ _ h.1 (by decide), fun k h1 h2 => hF _ _ _ (h.2 k h1 h2) (by omega)⟩
theorem LI.step {a m ou N : Nat} {ad : Nat → Nat} {th th' K R : Int32} {o : Option Value} {w3 : Wd} (h : LI g w a m ou ad S N th) (hw : LwP g w a ou S N K R S' o w1) (hF : FrM w1 w3) (hM : MR g w3 m ad (if K = 0 then S' else S) th') (hI : K = 0 → Inv S' (N + 1)) : LI g w3 a m ou ad (if K = 0 then S' else S) (N + 1) th' := by
  obtain ⟨hFS, hIn, -, -⟩ := h
  obtain ⟨-, hR, h0, h1⟩ := hw
  refine ⟨?_, ?_, hM, ?_⟩
  · by_cases hk : K = 0
    · rw [if_pos hk]
      exact (h0 hk).1.frM hF
    · rw [if_neg hk]
      exact (h1 hk).1.frM hF
  · by_cases hk : K = 0
    · rw [if_pos hk]
      exact hI hk
    · rw [if_neg hk]
      exact hIn.le (Nat.le_succ N)
  · by_cases hk : K = 0
    · obtain ⟨f, hf, -⟩ := (h0 hk).2
      exact ⟨f, hF _ _ _ hf (by unfold isM; decide)⟩
    · obtain ⟨f, hf⟩ := (h1 hk).2
      exact ⟨f, hF _ _ _ hf (by unfold isM; decide)⟩
/-- .. of a call that can't throw -/
theorem LI.step0 {a m ou N : Nat} {ad : Nat → Nat} {th th' : Int32} {w3 : Wd} (h : LI g w a m ou ad S N th) (hO : FrO w w1) (hS : FS g w1 a S' (N + 1)) (hF : FrM w1 w3) (hM : MR g w3 m ad S' th') (hI : Inv S' (N + 1)) : LI g w3 a m ou ad S' (N + 1) th' := by
  obtain ⟨hFS, hIn, -, f, hf⟩ := h
  exact ⟨hS.frM hF, hI, hM, f, hF _ _ _ (hO _ _ _ hf (by decide)) (by unfold isM; decide)⟩
theorem qK_0 {q : Int32} (h : qK S q = 0) : isQ S q = true := by
  unfold qK at h
  cases hq : isQ S q with
  | true => rfl
  | false => rw [hq] at h; exact absurd h (by decide)
theorem Inv.prodK {n : Nat} {q : Int32} (h : Inv S n) (hk : prodK S q = 0) : Inv (prodS S (qN q)) (n + 1) := by
  obtain ⟨hq, h5⟩ := prodK_0 hk
  obtain ⟨i, hi, hi20, rfl, e, -⟩ := isQ_le h.1 hq
  obtain ⟨z5, z3⟩ := h.1.2.1 i hi20
  rw [e] at h5 ⊢
  rw [z5] at h5
  exact (h.prod hi (Nat.lt_of_le_of_ne z3 (fun c => h5 (by rw [c]; rfl)))).le (Nat.le_succ n)
theorem Inv.dropK {n : Nat} {q : Int32} (h : Inv S n) (hk : qK S q = 0) : Inv (up2 S 4 (qN q) 1) (n + 1) := by
  obtain ⟨i, hi, hi20, rfl, e, -⟩ := isQ_le h.1 (qK_0 hk)
  rw [e]
  exact (h.row (Or.inr (Or.inl ⟨rfl, hi, rfl⟩))).le (Nat.le_succ n)
theorem Inv.quietK {n : Nat} {q mi : Int32} (h : Inv S n) (hk : quietK S q mi = 0) : Inv (up2 S 6 (qN q) mi) (n + 1) := by
  obtain ⟨hq, hm⟩ := quietK_0 hk
  obtain ⟨i, hi, hi20, rfl, e, -⟩ := isQ_le h.1 hq
  obtain ⟨u, hu, rfl, -⟩ := inB_nI (n := 1000) (by decide) hm
  rw [e]
  exact (h.row (Or.inr (Or.inr ⟨rfl, hi, u, by omega, rfl⟩))).le (Nat.le_succ n)
theorem inB_m1 {v : Int32} (h : inB v (-1) 63 = true) : v = -1 ∨ ∃ u : Nat, u < 64 ∧ v = nI u := by
  unfold inB at h
  rw [Bool.and_eq_true] at h
  have h1 := Int32.le_iff_toInt_le.mp (of_decide_eq_true h.1)
  have h2 := Int32.le_iff_toInt_le.mp (of_decide_eq_true h.2)
  rw [show (-1 : Int32).toInt = -1 by decide] at h1
  rw [show (63 : Int32).toInt = 63 by decide] at h2
  by_cases c : v.toInt = -1
  · exact Or.inl (Int32.toInt_inj.mp (c.trans (by decide)))
  · refine Or.inr ⟨v.toInt.toNat, by omega, ?_⟩
    apply Int32.toInt_inj.mp
    rw [nI_toInt (by omega)]
    omega
theorem Inv.setK {n : Nat} {nm v : Int32} (h : Inv S n) (hk : setK nm v = 0) : Inv (up2 S 3 (qN nm) v) (n + 1) := (h.row (Or.inl ⟨rfl, inB_m1 (setK_0 hk).2⟩)).le (Nat.le_succ n)
theorem Inv.testK {n : Nat} {q nm lo hi b : Int32} (h : Inv S n) (hb : b = 0 ∨ b = 1) (hk : testK S q nm lo hi = 0) : Inv (testS S (qN q) nm lo hi b) (n + 1) := by
  obtain ⟨hq, hn, hg, h0, h4⟩ := testK_0 hk
  obtain ⟨i, hi', hi20, rfl, e, -⟩ := isQ_le h.1 hq
  obtain ⟨nn, hn6, rfl, en⟩ := inB_nI (n := 5) (by decide) hn
  obtain ⟨c, d', g1, g2, rfl, rfl, g3, g4⟩ := rngB_nI hg
  rw [e] at h0 h4 ⊢
  obtain ⟨hA, hIB, hZ⟩ := id h
  have hnp3 := (hA.2.1 i (by omega)).2
  have hi60 : lastN S i < 60 := by show 3 * i + np S i - 1 < 60; omega
  have h10 := (hA.2.2.1 _ hi60).1
  have hv : vP S (lastN S i) := by
    have e : lastN S i = 3 * i + (np S i - 1) := by show 3 * i + np S i - 1 = _; omega
    rw [e]
    exact vP_of hi' (by omega) hnp3
  obtain ⟨hS, s11, s12, s13, s14⟩ := testS_row S i (nI nn) (nI c) (nI d') b h10 (by omega)
  exact (h.test hS hv h4 hi60 (by unfold testS; rw [up2_s]) (fun j hj => by unfold testS; rw [up2_j hj, up2_k (by decide), up2_k (by decide), up2_k (by decide), up2_k (by decide)]) (by omega) g1 g2 s11 s12 s13 (by rw [s14]; exact hb)).le (Nat.le_succ n)
def rC : Nat → Nat
  | 0 => 0
  | f + 1 => rC f + (200 * (63 - f) + 400)
def rS : Nat → Nat
  | 0 => 0
  | f + 1 => rS f + (2000 * (63 - f) + 4000)
theorem Z.lawJ {x : Cx} {pc : Nat} {L : List (Option Value)} {st : List Value} {kc ks kc' ks' : Nat} (h1 : kc' ≤ kc) (h2 : ks' ≤ ks) (kk : Z g x 7 pc L st w kc' ks') : Z g x 7 pc L st w kc ks := Z.room h1 h2 kk
theorem law_c0 {x : Cx} {b Ls a m ou j f : Nat} {xs : Nat → Int32} {ad : Nat → Nat} {th : Int32} {l5 l6 : Option Value} {R1 R2 : Nat} (ok : OK g x "AlertIndexLaw" cL_law 7 13 ret) (hs : SX g x b Ls xs) (h : LI g w a m ou ad S j th) (hj : 6 * j + 6 ≤ Ls) (hL : Ls ≤ 384) (kont : ∀ (w : Wd) (S : St) (th : Int32) (l5 l6 : Option Value), LI g w a m ou ad S (j + 1) th → Z g x 7 1119 [some (.ref b), some (.ref a), some (.ref m), some (.ref ou), some (.int (nI (6 * j))), l5, l6] [] w R1 R2) : Z g x 7 132 [some (.ref b), some (.ref a), some (.ref m), some (.ref ou), some (.int (nI (6 * j))), l5, l6] [] w (R1 + (200 * j + 400)) (R2 + (2000 * j + 4000)) := by
  have h0 := h
  obtain ⟨hFS, hI, hM, fo, ho⟩ := h
  refine Z.aload_n ok dL_law_132 rfl (by first | exact isRf.r _ | exact isRf.n | exact isRf.v _ | assumption) ?_
  refine Z.aload_n ok dL_law_133 rfl (by first | exact isRf.r _ | exact isRf.n | exact isRf.v _ | assumption) ?_
  refine Z.callSW (kc' := R1) (ks' := R2) ok (lquestion_ct hFS hI ho ) q981 q982 q15 q983 nk_X0_question rfl (by decide) (by first | exact Nat.le_of_ble_eq_true rfl | simp [Value.category, cat_rf]) (by omega) (by omega) dL_law_134 rfl ZX.no (fun v w1 hw => ?_)
  have hw0 := hw
  obtain ⟨rfl, hR, hk0, hk1⟩ := hw
  have hM1 := hM.frR hR
  have hm1 := hM1.o
  refine Z.istore ok dL_law_137 (by decide) ?_
  refine Z.aload_n ok dL_law_139 rfl (by first | exact isRf.r _ | exact isRf.n | exact isRf.v _ | assumption) ?_
  refine Z.callV (ci := 1) (q := (RX2, TX2, 15)) (C := RX2) ok (questionM_ct hM1) hm1 rfl rfl q1504 q1505 (Or.inl q1506) q22 q1507 nk_X2_question rfl (by decide) (by first | exact Nat.le_of_ble_eq_true rfl | simp [Value.category, cat_rf]) (Nat.le_refl _) (Nat.le_refl _) dL_law_140 rfl ZX.no (fun v w2 hr => ?_)
  obtain ⟨rfl, hM2, hF2⟩ := hr
  have hm2 := hM2.o
  refine Z.istore ok dL_law_143 (by decide) ?_
  refine Z.aload_n ok dL_law_145 rfl (by first | exact isRf.r _ | exact isRf.n | exact isRf.v _ | assumption) ?_
  refine Z.callV (ci := 1) (q := (RX2, TX2, 15)) (C := RX2) ok (thrown_ct hM2) hm2 rfl rfl q1500 q1501 (Or.inl q1502) q22 q1503 nk_X2_thrown rfl (by decide) (by first | exact Nat.le_of_ble_eq_true rfl | simp [Value.category, cat_rf]) (Nat.le_refl _) (Nat.le_refl _) dL_law_146 rfl ZX.no (fun v w3 hr => ?_)
  obtain ⟨rfl, hM3, hF3⟩ := hr
  refine Z.iload ok dL_law_149 rfl ?_
  refine Z.icmp_eq (tgt := 156) ok dL_law_151 (by decide) (fun _ => ?_) (fun hc => absurd rfl hc)
  refine Z.iload ok dL_law_156 rfl ?_
  have hLI := LI.step (S' := questS S) h0 hw0 (hF2.tr hF3) hM3 (fun hk => (hI.quest hk).le (Nat.le_succ j))
  by_cases hk : questK S = 0
  · refine Z.if_ne (tgt := 173) ok dL_law_158 (by decide) (fun hc => absurd hk hc) (fun _ => ?_)
    obtain ⟨-, f1, ho1, hf1⟩ := hk0 hk
    have ho3 := (hF2.tr hF3) _ _ _ ho1 (by unfold isM; decide)
    refine Z.aload_n ok dL_law_161 rfl (by first | exact isRf.r _ | exact isRf.n | exact isRf.v _ | assumption) ?_
    refine Z.iconst_0 ok dL_law_162 ?_
    refine Z.lald ok ho3 (vp_in_nI (N := 1) (show 0 < 1 by decide) (by decide)) dL_law_163 ?_
    rw [show f1 (0 : Int32).toNatClampNeg = _ from hf1]
    rw [if_pos hk, Int32.add_sub_cancel]
    refine Z.iload ok dL_law_164 rfl ?_
    refine Z.i2l ok dL_law_166 rfl ?_
    refine Z.lcmpE ok dL_law_167 ?_
    refine Z.if_eq (tgt := 173) ok dL_law_168 (by decide) (fun _ => ?_) (fun hc => absurd rfl hc)
    refine Z.goto (tgt := 1119) ok dL_law_173 (by decide) ?_
    exact kont w3 _ _ _ _ hLI
  · refine Z.if_ne (tgt := 173) ok dL_law_158 (by decide) (fun _ => ?_) (fun hc => absurd hc hk)
    refine Z.goto (tgt := 1119) ok dL_law_173 (by decide) ?_
    exact kont w3 _ _ _ _ hLI
theorem law_c1 {x : Cx} {b Ls a m ou j f : Nat} {xs : Nat → Int32} {ad : Nat → Nat} {th : Int32} {l5 l6 : Option Value} {R1 R2 : Nat} (ok : OK g x "AlertIndexLaw" cL_law 7 13 ret) (hs : SX g x b Ls xs) (h : LI g w a m ou ad S j th) (hj : 6 * j + 6 ≤ Ls) (hL : Ls ≤ 384) (kont : ∀ (w : Wd) (S : St) (th : Int32) (l5 l6 : Option Value), LI g w a m ou ad S (j + 1) th → Z g x 7 1119 [some (.ref b), some (.ref a), some (.ref m), some (.ref ou), some (.int (nI (6 * j))), l5, l6] [] w R1 R2) : Z g x 7 176 [some (.ref b), some (.ref a), some (.ref m), some (.ref ou), some (.int (nI (6 * j))), l5, l6] [] w (R1 + (200 * j + 400)) (R2 + (2000 * j + 4000)) := by
  have h0 := h
  obtain ⟨hFS, hI, hM, fo, ho⟩ := h
  refine Z.aload_n ok dL_law_176 rfl (by first | exact isRf.r _ | exact isRf.n | exact isRf.v _ | assumption) ?_
  refine Z.aload_n ok dL_law_177 rfl (by first | exact isRf.r _ | exact isRf.n | exact isRf.v _ | assumption) ?_
  refine Z.iload ok dL_law_178 rfl ?_
  refine Z.iconst_1 ok dL_law_180 ?_
  refine Z.iadd ok dL_law_181 ?_
  refine Z.scr (K := 1) ok hs (by omega) hL rfl dL_law_182 ?_
  refine Z.aload_n ok dL_law_183 rfl (by first | exact isRf.r _ | exact isRf.n | exact isRf.v _ | assumption) ?_
  refine Z.callSW (kc' := R1) (ks' := R2) ok (lproduct_ct hFS hI ho (xs (6 * j + 1))) q1078 q1079 q15 q1080 nk_X0_product rfl (by decide) (by first | exact Nat.le_of_ble_eq_true rfl | simp [Value.category, cat_rf]) (by omega) (by omega) dL_law_184 rfl ZX.no (fun v w1 hw => ?_)
  have hw0 := hw
  obtain ⟨rfl, hR, hk0, hk1⟩ := hw
  have hM1 := hM.frR hR
  have hm1 := hM1.o
  refine Z.istore ok dL_law_187 (by decide) ?_
  refine Z.aload_n ok dL_law_189 rfl (by first | exact isRf.r _ | exact isRf.n | exact isRf.v _ | assumption) ?_
  refine Z.aload_n ok dL_law_190 rfl (by first | exact isRf.r _ | exact isRf.n | exact isRf.v _ | assumption) ?_
  refine Z.iload ok dL_law_191 rfl ?_
  refine Z.iconst_1 ok dL_law_193 ?_
  refine Z.iadd ok dL_law_194 ?_
  refine Z.scr (K := 1) ok hs (by omega) hL rfl dL_law_195 ?_
  refine Z.callV (ci := 1) (q := (RX2, TX2, 15)) (C := RX2) ok (productM_ct hM1 hI.1 (xs (6 * j + 1))) hm1 rfl rfl q1512 q1513 (Or.inl q1514) q22 q1515 nk_X2_product rfl (by decide) (by first | exact Nat.le_of_ble_eq_true rfl | simp [Value.category, cat_rf]) (Nat.le_refl _) (Nat.le_refl _) dL_law_196 rfl ZX.no (fun v w2 hr => ?_)
  obtain ⟨rfl, hM2, hF2⟩ := hr
  have hm2 := hM2.o
  refine Z.istore ok dL_law_199 (by decide) ?_
  refine Z.aload_n ok dL_law_201 rfl (by first | exact isRf.r _ | exact isRf.n | exact isRf.v _ | assumption) ?_
  refine Z.callV (ci := 1) (q := (RX2, TX2, 15)) (C := RX2) ok (thrown_ct hM2) hm2 rfl rfl q1500 q1501 (Or.inl q1502) q22 q1503 nk_X2_thrown rfl (by decide) (by first | exact Nat.le_of_ble_eq_true rfl | simp [Value.category, cat_rf]) (Nat.le_refl _) (Nat.le_refl _) dL_law_202 rfl ZX.no (fun v w3 hr => ?_)
  obtain ⟨rfl, hM3, hF3⟩ := hr
  refine Z.iload ok dL_law_205 rfl ?_
  refine Z.icmp_eq (tgt := 212) ok dL_law_207 (by decide) (fun _ => ?_) (fun hc => absurd rfl hc)
  refine Z.iload ok dL_law_212 rfl ?_
  have hLI := LI.step (S' := prodS S (qN (xs (6 * j + 1)))) h0 hw0 (hF2.tr hF3) hM3 (fun hk => hI.prodK hk)
  by_cases hk : prodK S (xs (6 * j + 1)) = 0
  · refine Z.if_ne (tgt := 229) ok dL_law_214 (by decide) (fun hc => absurd hk hc) (fun _ => ?_)
    obtain ⟨-, f1, ho1, hf1⟩ := hk0 hk
    have ho3 := (hF2.tr hF3) _ _ _ ho1 (by unfold isM; decide)
    refine Z.aload_n ok dL_law_217 rfl (by first | exact isRf.r _ | exact isRf.n | exact isRf.v _ | assumption) ?_
    refine Z.iconst_0 ok dL_law_218 ?_
    refine Z.lald ok ho3 (vp_in_nI (N := 1) (show 0 < 1 by decide) (by decide)) dL_law_219 ?_
    rw [show f1 (0 : Int32).toNatClampNeg = _ from hf1]
    rw [if_pos hk]
    refine Z.iload ok dL_law_220 rfl ?_
    refine Z.i2l ok dL_law_222 rfl ?_
    refine Z.lcmpE ok dL_law_223 ?_
    refine Z.if_eq (tgt := 229) ok dL_law_224 (by decide) (fun _ => ?_) (fun hc => absurd rfl hc)
    refine Z.goto (tgt := 1119) ok dL_law_229 (by decide) ?_
    exact kont w3 _ _ _ _ hLI
  · refine Z.if_ne (tgt := 229) ok dL_law_214 (by decide) (fun _ => ?_) (fun hc => absurd hc hk)
    refine Z.goto (tgt := 1119) ok dL_law_229 (by decide) ?_
    exact kont w3 _ _ _ _ hLI
theorem law_c2 {x : Cx} {b Ls a m ou j f : Nat} {xs : Nat → Int32} {ad : Nat → Nat} {th : Int32} {l5 l6 : Option Value} {R1 R2 : Nat} (ok : OK g x "AlertIndexLaw" cL_law 7 13 ret) (hs : SX g x b Ls xs) (h : LI g w a m ou ad S j th) (hj : 6 * j + 6 ≤ Ls) (hL : Ls ≤ 384) (kont : ∀ (w : Wd) (S : St) (th : Int32) (l5 l6 : Option Value), LI g w a m ou ad S (j + 1) th → Z g x 7 1119 [some (.ref b), some (.ref a), some (.ref m), some (.ref ou), some (.int (nI (6 * j))), l5, l6] [] w R1 R2) : Z g x 7 232 [some (.ref b), some (.ref a), some (.ref m), some (.ref ou), some (.int (nI (6 * j))), l5, l6] [] w (R1 + (200 * j + 400)) (R2 + (2000 * j + 4000)) := by
  have h0 := h
  obtain ⟨hFS, hI, hM, fo, ho⟩ := h
  have body : ∀ bb : Int32, bb = 0 ∨ bb = 1 → (∀ (w : Wd) (l5 l6 : Option Value) (kc ks : Nat) (st : List Value), Z g x 7 316 [some (.ref b), some (.ref a), some (.ref m), some (.ref ou), some (.int (nI (6 * j))), l5, l6] (.int bb :: st) w kc ks → Z g x 7 308 [some (.ref b), some (.ref a), some (.ref m), some (.ref ou), some (.int (nI (6 * j))), l5, l6] (.int (xs (6 * j + 5)) :: st) w kc ks) → Z g x 7 271 [some (.ref b), some (.ref a), some (.ref m), some (.ref ou), some (.int (nI (6 * j))), l5, l6] [.int bb, .int (xs (6 * j + 4)), .int (xs (6 * j + 3)), .int (xs (6 * j + 2)), .int (xs (6 * j + 1)), .ref a] w (R1 + (200 * j + 400)) (R2 + (2000 * j + 4000)) := by
    intro bb hbb k316
    refine Z.aload_n ok dL_law_271 rfl (by first | exact isRf.r _ | exact isRf.n | exact isRf.v _ | assumption) ?_
    refine Z.callSW (kc' := R1) (ks' := R2) ok (ltest_ct hFS hI ho (xs (6 * j + 1)) (xs (6 * j + 2)) (xs (6 * j + 3)) (xs (6 * j + 4)) bb hbb (by omega)) q1145 q1146 q15 q1147 nk_X0_test rfl (by decide) (by first | exact Nat.le_of_ble_eq_true rfl | simp [Value.category, cat_rf]) (by omega) (by omega) dL_law_272 rfl ZX.no (fun v w1 hw => ?_)
    have hw0 := hw
    obtain ⟨rfl, hR, hk0, hk1⟩ := hw
    have hM1 := hM.frR hR
    have hm1 := hM1.o
    refine Z.istore ok dL_law_275 (by decide) ?_
    refine Z.aload_n ok dL_law_277 rfl (by first | exact isRf.r _ | exact isRf.n | exact isRf.v _ | assumption) ?_
    refine Z.aload_n ok dL_law_278 rfl (by first | exact isRf.r _ | exact isRf.n | exact isRf.v _ | assumption) ?_
    refine Z.iload ok dL_law_279 rfl ?_
    refine Z.iconst_1 ok dL_law_281 ?_
    refine Z.iadd ok dL_law_282 ?_
    refine Z.scr (K := 1) ok hs (by omega) hL rfl dL_law_283 ?_
    refine Z.aload_n ok dL_law_284 rfl (by first | exact isRf.r _ | exact isRf.n | exact isRf.v _ | assumption) ?_
    refine Z.iload ok dL_law_285 rfl ?_
    refine Z.iconst_2 ok dL_law_287 ?_
    refine Z.iadd ok dL_law_288 ?_
    refine Z.scr (K := 2) ok hs (by omega) hL rfl dL_law_289 ?_
    refine Z.aload_n ok dL_law_290 rfl (by first | exact isRf.r _ | exact isRf.n | exact isRf.v _ | assumption) ?_
    refine Z.iload ok dL_law_291 rfl ?_
    refine Z.iconst_3 ok dL_law_293 ?_
    refine Z.iadd ok dL_law_294 ?_
    refine Z.scr (K := 3) ok hs (by omega) hL rfl dL_law_295 ?_
    refine Z.aload_n ok dL_law_296 rfl (by first | exact isRf.r _ | exact isRf.n | exact isRf.v _ | assumption) ?_
    refine Z.iload ok dL_law_297 rfl ?_
    refine Z.iconst_4 ok dL_law_299 ?_
    refine Z.iadd ok dL_law_300 ?_
    refine Z.scr (K := 4) ok hs (by omega) hL rfl dL_law_301 ?_
    refine Z.aload_n ok dL_law_302 rfl (by first | exact isRf.r _ | exact isRf.n | exact isRf.v _ | assumption) ?_
    refine Z.iload ok dL_law_303 rfl ?_
    refine Z.iconst_5 ok dL_law_305 ?_
    refine Z.iadd ok dL_law_306 ?_
    refine Z.scr (K := 5) ok hs (by omega) hL rfl dL_law_307 ?_
    refine k316 w1 _ _ _ _ _ ?_
    refine Z.callV (ci := 1) (q := (RX2, TX2, 15)) (C := RX2) ok (testM_ct hM1 hI.1 (xs (6 * j + 1)) (xs (6 * j + 2)) (xs (6 * j + 3)) (xs (6 * j + 4)) bb hbb) hm1 rfl rfl q1523 q1524 (Or.inl q1525) q22 q1526 nk_X2_test rfl (by decide) (by first | exact Nat.le_of_ble_eq_true rfl | simp [Value.category, cat_rf]) (Nat.le_refl _) (Nat.le_refl _) dL_law_316 rfl ZX.no (fun v w2 hr => ?_)
    obtain ⟨rfl, hM2, hF2⟩ := hr
    have hm2 := hM2.o
    refine Z.istore ok dL_law_319 (by decide) ?_
    refine Z.aload_n ok dL_law_321 rfl (by first | exact isRf.r _ | exact isRf.n | exact isRf.v _ | assumption) ?_
    refine Z.callV (ci := 1) (q := (RX2, TX2, 15)) (C := RX2) ok (thrown_ct hM2) hm2 rfl rfl q1500 q1501 (Or.inl q1502) q22 q1503 nk_X2_thrown rfl (by decide) (by first | exact Nat.le_of_ble_eq_true rfl | simp [Value.category, cat_rf]) (Nat.le_refl _) (Nat.le_refl _) dL_law_322 rfl ZX.no (fun v w3 hr => ?_)
    obtain ⟨rfl, hM3, hF3⟩ := hr
    refine Z.iload ok dL_law_325 rfl ?_
    refine Z.icmp_eq (tgt := 332) ok dL_law_327 (by decide) (fun _ => ?_) (fun hc => absurd rfl hc)
    refine Z.iload ok dL_law_332 rfl ?_
    have hLI := LI.step (S' := testS S (qN (xs (6 * j + 1))) (xs (6 * j + 2)) (xs (6 * j + 3)) (xs (6 * j + 4)) bb) h0 hw0 (hF2.tr hF3) hM3 (fun hk => hI.testK hbb hk)
    by_cases hk : testK S (xs (6 * j + 1)) (xs (6 * j + 2)) (xs (6 * j + 3)) (xs (6 * j + 4)) = 0
    · refine Z.if_ne (tgt := 349) ok dL_law_334 (by decide) (fun hc => absurd hk hc) (fun _ => ?_)
      obtain ⟨-, f1, ho1, hf1⟩ := hk0 hk
      have ho3 := (hF2.tr hF3) _ _ _ ho1 (by unfold isM; decide)
      refine Z.aload_n ok dL_law_337 rfl (by first | exact isRf.r _ | exact isRf.n | exact isRf.v _ | assumption) ?_
      refine Z.iconst_0 ok dL_law_338 ?_
      refine Z.lald ok ho3 (vp_in_nI (N := 1) (show 0 < 1 by decide) (by decide)) dL_law_339 ?_
      rw [show f1 (0 : Int32).toNatClampNeg = _ from hf1]
      rw [if_pos hk]
      refine Z.iload ok dL_law_340 rfl ?_
      refine Z.i2l ok dL_law_342 rfl ?_
      refine Z.lcmpE ok dL_law_343 ?_
      refine Z.if_eq (tgt := 349) ok dL_law_344 (by decide) (fun _ => ?_) (fun hc => absurd rfl hc)
      refine Z.goto (tgt := 1119) ok dL_law_349 (by decide) ?_
      exact kont w3 _ _ _ _ hLI
    · refine Z.if_ne (tgt := 349) ok dL_law_334 (by decide) (fun _ => ?_) (fun hc => absurd hc hk)
      refine Z.goto (tgt := 1119) ok dL_law_349 (by decide) ?_
      exact kont w3 _ _ _ _ hLI
  refine Z.aload_n ok dL_law_232 rfl (by first | exact isRf.r _ | exact isRf.n | exact isRf.v _ | assumption) ?_
  refine Z.aload_n ok dL_law_233 rfl (by first | exact isRf.r _ | exact isRf.n | exact isRf.v _ | assumption) ?_
  refine Z.iload ok dL_law_234 rfl ?_
  refine Z.iconst_1 ok dL_law_236 ?_
  refine Z.iadd ok dL_law_237 ?_
  refine Z.scr (K := 1) ok hs (by omega) hL rfl dL_law_238 ?_
  refine Z.aload_n ok dL_law_239 rfl (by first | exact isRf.r _ | exact isRf.n | exact isRf.v _ | assumption) ?_
  refine Z.iload ok dL_law_240 rfl ?_
  refine Z.iconst_2 ok dL_law_242 ?_
  refine Z.iadd ok dL_law_243 ?_
  refine Z.scr (K := 2) ok hs (by omega) hL rfl dL_law_244 ?_
  refine Z.aload_n ok dL_law_245 rfl (by first | exact isRf.r _ | exact isRf.n | exact isRf.v _ | assumption) ?_
  refine Z.iload ok dL_law_246 rfl ?_
  refine Z.iconst_3 ok dL_law_248 ?_
  refine Z.iadd ok dL_law_249 ?_
  refine Z.scr (K := 3) ok hs (by omega) hL rfl dL_law_250 ?_
  refine Z.aload_n ok dL_law_251 rfl (by first | exact isRf.r _ | exact isRf.n | exact isRf.v _ | assumption) ?_
  refine Z.iload ok dL_law_252 rfl ?_
  refine Z.iconst_4 ok dL_law_254 ?_
  refine Z.iadd ok dL_law_255 ?_
  refine Z.scr (K := 4) ok hs (by omega) hL rfl dL_law_256 ?_
  refine Z.aload_n ok dL_law_257 rfl (by first | exact isRf.r _ | exact isRf.n | exact isRf.v _ | assumption) ?_
  refine Z.iload ok dL_law_258 rfl ?_
  refine Z.iconst_5 ok dL_law_260 ?_
  refine Z.iadd ok dL_law_261 ?_
  refine Z.scr (K := 5) ok hs (by omega) hL rfl dL_law_262 ?_
  by_cases h5 : xs (6 * j + 5) = 0
  · refine Z.if_eq (tgt := 270) ok dL_law_263 (by decide) (fun _ => ?_) (fun hc => absurd h5 hc)
    refine Z.iconst_0 ok dL_law_270 ?_
    refine body 0 (Or.inl rfl) (fun w l5 l6 kc ks st hz => ?_)
    refine Z.if_eq (tgt := 315) ok dL_law_308 (by decide) (fun _ => ?_) (fun hc => absurd h5 hc)
    refine Z.iconst_0 ok dL_law_315 ?_
    exact hz
  · refine Z.if_eq (tgt := 270) ok dL_law_263 (by decide) (fun hc => absurd hc h5) (fun _ => ?_)
    refine Z.iconst_1 ok dL_law_266 ?_
    refine Z.goto (tgt := 271) ok dL_law_267 (by decide) ?_
    refine body 1 (Or.inr rfl) (fun w l5 l6 kc ks st hz => ?_)
    refine Z.if_eq (tgt := 315) ok dL_law_308 (by decide) (fun hc => absurd hc h5) (fun _ => ?_)
    refine Z.iconst_1 ok dL_law_311 ?_
    refine Z.goto (tgt := 316) ok dL_law_312 (by decide) ?_
    exact hz
theorem law_c3 {x : Cx} {b Ls a m ou j f : Nat} {xs : Nat → Int32} {ad : Nat → Nat} {th : Int32} {l5 l6 : Option Value} {R1 R2 : Nat} (ok : OK g x "AlertIndexLaw" cL_law 7 13 ret) (hs : SX g x b Ls xs) (h : LI g w a m ou ad S j th) (hj : 6 * j + 6 ≤ Ls) (hL : Ls ≤ 384) (kont : ∀ (w : Wd) (S : St) (th : Int32) (l5 l6 : Option Value), LI g w a m ou ad S (j + 1) th → Z g x 7 1119 [some (.ref b), some (.ref a), some (.ref m), some (.ref ou), some (.int (nI (6 * j))), l5, l6] [] w R1 R2) : Z g x 7 352 [some (.ref b), some (.ref a), some (.ref m), some (.ref ou), some (.int (nI (6 * j))), l5, l6] [] w (R1 + (200 * j + 400)) (R2 + (2000 * j + 4000)) := by
  have h0 := h
  obtain ⟨hFS, hI, hM, fo, ho⟩ := h
  refine Z.aload_n ok dL_law_352 rfl (by first | exact isRf.r _ | exact isRf.n | exact isRf.v _ | assumption) ?_
  refine Z.aload_n ok dL_law_353 rfl (by first | exact isRf.r _ | exact isRf.n | exact isRf.v _ | assumption) ?_
  refine Z.iload ok dL_law_354 rfl ?_
  refine Z.iconst_1 ok dL_law_356 ?_
  refine Z.iadd ok dL_law_357 ?_
  refine Z.scr (K := 1) ok hs (by omega) hL rfl dL_law_358 ?_
  refine Z.aload_n ok dL_law_359 rfl (by first | exact isRf.r _ | exact isRf.n | exact isRf.v _ | assumption) ?_
  refine Z.callSW (kc' := R1) (ks' := R2) ok (ldrop_ct hFS hI ho (xs (6 * j + 1))) q1369 q1370 q15 q1371 nk_X0_drop rfl (by decide) (by first | exact Nat.le_of_ble_eq_true rfl | simp [Value.category, cat_rf]) (by omega) (by omega) dL_law_360 rfl ZX.no (fun v w1 hw => ?_)
  have hw0 := hw
  obtain ⟨rfl, hR, hk0, hk1⟩ := hw
  have hM1 := hM.frR hR
  have hm1 := hM1.o
  refine Z.istore ok dL_law_363 (by decide) ?_
  refine Z.aload_n ok dL_law_365 rfl (by first | exact isRf.r _ | exact isRf.n | exact isRf.v _ | assumption) ?_
  refine Z.aload_n ok dL_law_366 rfl (by first | exact isRf.r _ | exact isRf.n | exact isRf.v _ | assumption) ?_
  refine Z.iload ok dL_law_367 rfl ?_
  refine Z.iconst_1 ok dL_law_369 ?_
  refine Z.iadd ok dL_law_370 ?_
  refine Z.scr (K := 1) ok hs (by omega) hL rfl dL_law_371 ?_
  refine Z.callV (ci := 1) (q := (RX2, TX2, 15)) (C := RX2) ok (dropM_ct hM1 hI.1 (xs (6 * j + 1))) hm1 rfl rfl q1533 q1534 (Or.inl q1535) q22 q1536 nk_X2_drop rfl (by decide) (by first | exact Nat.le_of_ble_eq_true rfl | simp [Value.category, cat_rf]) (Nat.le_refl _) (Nat.le_refl _) dL_law_372 rfl ZX.no (fun v w2 hr => ?_)
  obtain ⟨rfl, hM2, hF2⟩ := hr
  have hm2 := hM2.o
  refine Z.istore ok dL_law_375 (by decide) ?_
  refine Z.aload_n ok dL_law_377 rfl (by first | exact isRf.r _ | exact isRf.n | exact isRf.v _ | assumption) ?_
  refine Z.callV (ci := 1) (q := (RX2, TX2, 15)) (C := RX2) ok (thrown_ct hM2) hm2 rfl rfl q1500 q1501 (Or.inl q1502) q22 q1503 nk_X2_thrown rfl (by decide) (by first | exact Nat.le_of_ble_eq_true rfl | simp [Value.category, cat_rf]) (Nat.le_refl _) (Nat.le_refl _) dL_law_378 rfl ZX.no (fun v w3 hr => ?_)
  obtain ⟨rfl, hM3, hF3⟩ := hr
  refine Z.iload ok dL_law_381 rfl ?_
  refine Z.icmp_eq (tgt := 388) ok dL_law_383 (by decide) (fun _ => ?_) (fun hc => absurd rfl hc)
  refine Z.iload ok dL_law_388 rfl ?_
  have hLI := LI.step (S' := up2 S 4 (qN (xs (6 * j + 1))) 1) h0 hw0 (hF2.tr hF3) hM3 (fun hk => hI.dropK hk)
  by_cases hk : qK S (xs (6 * j + 1)) = 0
  · refine Z.if_ne (tgt := 405) ok dL_law_390 (by decide) (fun hc => absurd hk hc) (fun _ => ?_)
    obtain ⟨-, f1, ho1, hf1⟩ := hk0 hk
    have ho3 := (hF2.tr hF3) _ _ _ ho1 (by unfold isM; decide)
    refine Z.aload_n ok dL_law_393 rfl (by first | exact isRf.r _ | exact isRf.n | exact isRf.v _ | assumption) ?_
    refine Z.iconst_0 ok dL_law_394 ?_
    refine Z.lald ok ho3 (vp_in_nI (N := 1) (show 0 < 1 by decide) (by decide)) dL_law_395 ?_
    rw [show f1 (0 : Int32).toNatClampNeg = _ from hf1]
    rw [if_pos hk]
    refine Z.iload ok dL_law_396 rfl ?_
    refine Z.i2l ok dL_law_398 rfl ?_
    refine Z.lcmpE ok dL_law_399 ?_
    refine Z.if_eq (tgt := 405) ok dL_law_400 (by decide) (fun _ => ?_) (fun hc => absurd rfl hc)
    refine Z.goto (tgt := 1119) ok dL_law_405 (by decide) ?_
    exact kont w3 _ _ _ _ hLI
  · refine Z.if_ne (tgt := 405) ok dL_law_390 (by decide) (fun _ => ?_) (fun hc => absurd hc hk)
    refine Z.goto (tgt := 1119) ok dL_law_405 (by decide) ?_
    exact kont w3 _ _ _ _ hLI
theorem law_c4 {x : Cx} {b Ls a m ou j f : Nat} {xs : Nat → Int32} {ad : Nat → Nat} {th : Int32} {l5 l6 : Option Value} {R1 R2 : Nat} (ok : OK g x "AlertIndexLaw" cL_law 7 13 ret) (hs : SX g x b Ls xs) (h : LI g w a m ou ad S j th) (hj : 6 * j + 6 ≤ Ls) (hL : Ls ≤ 384) (kont : ∀ (w : Wd) (S : St) (th : Int32) (l5 l6 : Option Value), LI g w a m ou ad S (j + 1) th → Z g x 7 1119 [some (.ref b), some (.ref a), some (.ref m), some (.ref ou), some (.int (nI (6 * j))), l5, l6] [] w R1 R2) : Z g x 7 408 [some (.ref b), some (.ref a), some (.ref m), some (.ref ou), some (.int (nI (6 * j))), l5, l6] [] w (R1 + (200 * j + 400)) (R2 + (2000 * j + 4000)) := by
  have h0 := h
  obtain ⟨hFS, hI, hM, fo, ho⟩ := h
  refine Z.aload_n ok dL_law_408 rfl (by first | exact isRf.r _ | exact isRf.n | exact isRf.v _ | assumption) ?_
  refine Z.aload_n ok dL_law_409 rfl (by first | exact isRf.r _ | exact isRf.n | exact isRf.v _ | assumption) ?_
  refine Z.iload ok dL_law_410 rfl ?_
  refine Z.iconst_1 ok dL_law_412 ?_
  refine Z.iadd ok dL_law_413 ?_
  refine Z.scr (K := 1) ok hs (by omega) hL rfl dL_law_414 ?_
  refine Z.aload_n ok dL_law_415 rfl (by first | exact isRf.r _ | exact isRf.n | exact isRf.v _ | assumption) ?_
  refine Z.iload ok dL_law_416 rfl ?_
  refine Z.iconst_2 ok dL_law_418 ?_
  refine Z.iadd ok dL_law_419 ?_
  refine Z.scr (K := 2) ok hs (by omega) hL rfl dL_law_420 ?_
  refine Z.aload_n ok dL_law_421 rfl (by first | exact isRf.r _ | exact isRf.n | exact isRf.v _ | assumption) ?_
  refine Z.callSW (kc' := R1) (ks' := R2) ok (lsetQuiet_ct hFS hI ho (xs (6 * j + 1)) (xs (6 * j + 2))) q1376 q1377 q15 q1378 nk_X0_setQuiet rfl (by decide) (by first | exact Nat.le_of_ble_eq_true rfl | simp [Value.category, cat_rf]) (by omega) (by omega) dL_law_422 rfl ZX.no (fun v w1 hw => ?_)
  have hw0 := hw
  obtain ⟨rfl, hR, hk0, hk1⟩ := hw
  have hM1 := hM.frR hR
  have hm1 := hM1.o
  refine Z.istore ok dL_law_425 (by decide) ?_
  refine Z.aload_n ok dL_law_427 rfl (by first | exact isRf.r _ | exact isRf.n | exact isRf.v _ | assumption) ?_
  refine Z.aload_n ok dL_law_428 rfl (by first | exact isRf.r _ | exact isRf.n | exact isRf.v _ | assumption) ?_
  refine Z.iload ok dL_law_429 rfl ?_
  refine Z.iconst_1 ok dL_law_431 ?_
  refine Z.iadd ok dL_law_432 ?_
  refine Z.scr (K := 1) ok hs (by omega) hL rfl dL_law_433 ?_
  refine Z.aload_n ok dL_law_434 rfl (by first | exact isRf.r _ | exact isRf.n | exact isRf.v _ | assumption) ?_
  refine Z.iload ok dL_law_435 rfl ?_
  refine Z.iconst_2 ok dL_law_437 ?_
  refine Z.iadd ok dL_law_438 ?_
  refine Z.scr (K := 2) ok hs (by omega) hL rfl dL_law_439 ?_
  refine Z.callV (ci := 1) (q := (RX2, TX2, 15)) (C := RX2) ok (setQuietM_ct hM1 hI.1 (xs (6 * j + 1)) (xs (6 * j + 2))) hm1 rfl rfl q1537 q1538 (Or.inl q1539) q22 q1540 nk_X2_setQuiet rfl (by decide) (by first | exact Nat.le_of_ble_eq_true rfl | simp [Value.category, cat_rf]) (Nat.le_refl _) (Nat.le_refl _) dL_law_440 rfl ZX.no (fun v w2 hr => ?_)
  obtain ⟨rfl, hM2, hF2⟩ := hr
  have hm2 := hM2.o
  refine Z.istore ok dL_law_443 (by decide) ?_
  refine Z.aload_n ok dL_law_445 rfl (by first | exact isRf.r _ | exact isRf.n | exact isRf.v _ | assumption) ?_
  refine Z.callV (ci := 1) (q := (RX2, TX2, 15)) (C := RX2) ok (thrown_ct hM2) hm2 rfl rfl q1500 q1501 (Or.inl q1502) q22 q1503 nk_X2_thrown rfl (by decide) (by first | exact Nat.le_of_ble_eq_true rfl | simp [Value.category, cat_rf]) (Nat.le_refl _) (Nat.le_refl _) dL_law_446 rfl ZX.no (fun v w3 hr => ?_)
  obtain ⟨rfl, hM3, hF3⟩ := hr
  refine Z.iload ok dL_law_449 rfl ?_
  refine Z.icmp_eq (tgt := 456) ok dL_law_451 (by decide) (fun _ => ?_) (fun hc => absurd rfl hc)
  refine Z.iload ok dL_law_456 rfl ?_
  have hLI := LI.step (S' := up2 S 6 (qN (xs (6 * j + 1))) (xs (6 * j + 2))) h0 hw0 (hF2.tr hF3) hM3 (fun hk => hI.quietK hk)
  by_cases hk : quietK S (xs (6 * j + 1)) (xs (6 * j + 2)) = 0
  · refine Z.if_ne (tgt := 473) ok dL_law_458 (by decide) (fun hc => absurd hk hc) (fun _ => ?_)
    obtain ⟨-, f1, ho1, hf1⟩ := hk0 hk
    have ho3 := (hF2.tr hF3) _ _ _ ho1 (by unfold isM; decide)
    refine Z.aload_n ok dL_law_461 rfl (by first | exact isRf.r _ | exact isRf.n | exact isRf.v _ | assumption) ?_
    refine Z.iconst_0 ok dL_law_462 ?_
    refine Z.lald ok ho3 (vp_in_nI (N := 1) (show 0 < 1 by decide) (by decide)) dL_law_463 ?_
    rw [show f1 (0 : Int32).toNatClampNeg = _ from hf1]
    rw [if_pos hk]
    refine Z.iload ok dL_law_464 rfl ?_
    refine Z.i2l ok dL_law_466 rfl ?_
    refine Z.lcmpE ok dL_law_467 ?_
    refine Z.if_eq (tgt := 473) ok dL_law_468 (by decide) (fun _ => ?_) (fun hc => absurd rfl hc)
    refine Z.goto (tgt := 1119) ok dL_law_473 (by decide) ?_
    exact kont w3 _ _ _ _ hLI
  · refine Z.if_ne (tgt := 473) ok dL_law_458 (by decide) (fun _ => ?_) (fun hc => absurd hc hk)
    refine Z.goto (tgt := 1119) ok dL_law_473 (by decide) ?_
    exact kont w3 _ _ _ _ hLI
theorem law_c5 {x : Cx} {b Ls a m ou j f : Nat} {xs : Nat → Int32} {ad : Nat → Nat} {th : Int32} {l5 l6 : Option Value} {R1 R2 : Nat} (ok : OK g x "AlertIndexLaw" cL_law 7 13 ret) (hs : SX g x b Ls xs) (h : LI g w a m ou ad S j th) (hj : 6 * j + 6 ≤ Ls) (hL : Ls ≤ 384) (kont : ∀ (w : Wd) (S : St) (th : Int32) (l5 l6 : Option Value), LI g w a m ou ad S (j + 1) th → Z g x 7 1119 [some (.ref b), some (.ref a), some (.ref m), some (.ref ou), some (.int (nI (6 * j))), l5, l6] [] w R1 R2) : Z g x 7 476 [some (.ref b), some (.ref a), some (.ref m), some (.ref ou), some (.int (nI (6 * j))), l5, l6] [] w (R1 + (200 * j + 400)) (R2 + (2000 * j + 4000)) := by
  have h0 := h
  obtain ⟨hFS, hI, hM, fo, ho⟩ := h
  refine Z.aload_n ok dL_law_476 rfl (by first | exact isRf.r _ | exact isRf.n | exact isRf.v _ | assumption) ?_
  refine Z.aload_n ok dL_law_477 rfl (by first | exact isRf.r _ | exact isRf.n | exact isRf.v _ | assumption) ?_
  refine Z.iload ok dL_law_478 rfl ?_
  refine Z.iconst_1 ok dL_law_480 ?_
  refine Z.iadd ok dL_law_481 ?_
  refine Z.scr (K := 1) ok hs (by omega) hL rfl dL_law_482 ?_
  refine Z.aload_n ok dL_law_483 rfl (by first | exact isRf.r _ | exact isRf.n | exact isRf.v _ | assumption) ?_
  refine Z.iload ok dL_law_484 rfl ?_
  refine Z.iconst_2 ok dL_law_486 ?_
  refine Z.iadd ok dL_law_487 ?_
  refine Z.scr (K := 2) ok hs (by omega) hL rfl dL_law_488 ?_
  refine Z.aload_n ok dL_law_489 rfl (by first | exact isRf.r _ | exact isRf.n | exact isRf.v _ | assumption) ?_
  refine Z.callSW (kc' := R1) (ks' := R2) ok (lset_ct hFS hI ho (xs (6 * j + 1)) (xs (6 * j + 2))) q1383 q1384 q15 q1385 nk_X0_set rfl (by decide) (by first | exact Nat.le_of_ble_eq_true rfl | simp [Value.category, cat_rf]) (by omega) (by omega) dL_law_490 rfl ZX.no (fun v w1 hw => ?_)
  have hw0 := hw
  obtain ⟨rfl, hR, hk0, hk1⟩ := hw
  have hM1 := hM.frR hR
  have hm1 := hM1.o
  refine Z.istore ok dL_law_493 (by decide) ?_
  refine Z.aload_n ok dL_law_495 rfl (by first | exact isRf.r _ | exact isRf.n | exact isRf.v _ | assumption) ?_
  refine Z.aload_n ok dL_law_496 rfl (by first | exact isRf.r _ | exact isRf.n | exact isRf.v _ | assumption) ?_
  refine Z.iload ok dL_law_497 rfl ?_
  refine Z.iconst_1 ok dL_law_499 ?_
  refine Z.iadd ok dL_law_500 ?_
  refine Z.scr (K := 1) ok hs (by omega) hL rfl dL_law_501 ?_
  refine Z.aload_n ok dL_law_502 rfl (by first | exact isRf.r _ | exact isRf.n | exact isRf.v _ | assumption) ?_
  refine Z.iload ok dL_law_503 rfl ?_
  refine Z.iconst_2 ok dL_law_505 ?_
  refine Z.iadd ok dL_law_506 ?_
  refine Z.scr (K := 2) ok hs (by omega) hL rfl dL_law_507 ?_
  refine Z.callV (ci := 1) (q := (RX2, TX2, 15)) (C := RX2) ok (setM_ct hM1 (xs (6 * j + 1)) (xs (6 * j + 2))) hm1 rfl rfl q1541 q1542 (Or.inl q1543) q22 q1544 nk_X2_set rfl (by decide) (by first | exact Nat.le_of_ble_eq_true rfl | simp [Value.category, cat_rf]) (Nat.le_refl _) (Nat.le_refl _) dL_law_508 rfl ZX.no (fun v w2 hr => ?_)
  obtain ⟨rfl, hM2, hF2⟩ := hr
  have hm2 := hM2.o
  refine Z.istore ok dL_law_511 (by decide) ?_
  refine Z.aload_n ok dL_law_513 rfl (by first | exact isRf.r _ | exact isRf.n | exact isRf.v _ | assumption) ?_
  refine Z.callV (ci := 1) (q := (RX2, TX2, 15)) (C := RX2) ok (thrown_ct hM2) hm2 rfl rfl q1500 q1501 (Or.inl q1502) q22 q1503 nk_X2_thrown rfl (by decide) (by first | exact Nat.le_of_ble_eq_true rfl | simp [Value.category, cat_rf]) (Nat.le_refl _) (Nat.le_refl _) dL_law_514 rfl ZX.no (fun v w3 hr => ?_)
  obtain ⟨rfl, hM3, hF3⟩ := hr
  refine Z.iload ok dL_law_517 rfl ?_
  refine Z.icmp_eq (tgt := 524) ok dL_law_519 (by decide) (fun _ => ?_) (fun hc => absurd rfl hc)
  refine Z.iload ok dL_law_524 rfl ?_
  have hLI := LI.step (S' := up2 S 3 (qN (xs (6 * j + 1))) (xs (6 * j + 2))) h0 hw0 (hF2.tr hF3) hM3 (fun hk => hI.setK hk)
  by_cases hk : setK (xs (6 * j + 1)) (xs (6 * j + 2)) = 0
  · refine Z.if_ne (tgt := 541) ok dL_law_526 (by decide) (fun hc => absurd hk hc) (fun _ => ?_)
    obtain ⟨-, f1, ho1, hf1⟩ := hk0 hk
    have ho3 := (hF2.tr hF3) _ _ _ ho1 (by unfold isM; decide)
    refine Z.aload_n ok dL_law_529 rfl (by first | exact isRf.r _ | exact isRf.n | exact isRf.v _ | assumption) ?_
    refine Z.iconst_0 ok dL_law_530 ?_
    refine Z.lald ok ho3 (vp_in_nI (N := 1) (show 0 < 1 by decide) (by decide)) dL_law_531 ?_
    rw [show f1 (0 : Int32).toNatClampNeg = _ from hf1]
    rw [if_pos hk]
    refine Z.iload ok dL_law_532 rfl ?_
    refine Z.i2l ok dL_law_534 rfl ?_
    refine Z.lcmpE ok dL_law_535 ?_
    refine Z.if_eq (tgt := 541) ok dL_law_536 (by decide) (fun _ => ?_) (fun hc => absurd rfl hc)
    refine Z.goto (tgt := 1119) ok dL_law_541 (by decide) ?_
    exact kont w3 _ _ _ _ hLI
  · refine Z.if_ne (tgt := 541) ok dL_law_526 (by decide) (fun _ => ?_) (fun hc => absurd hc hk)
    refine Z.goto (tgt := 1119) ok dL_law_541 (by decide) ?_
    exact kont w3 _ _ _ _ hLI
theorem law_c6 {x : Cx} {b Ls a m ou j f : Nat} {xs : Nat → Int32} {ad : Nat → Nat} {th : Int32} {l5 l6 : Option Value} {R1 R2 : Nat} (ok : OK g x "AlertIndexLaw" cL_law 7 13 ret) (hs : SX g x b Ls xs) (h : LI g w a m ou ad S j th) (hj : 6 * j + 6 ≤ Ls) (hL : Ls ≤ 384) (kont : ∀ (w : Wd) (S : St) (th : Int32) (l5 l6 : Option Value), LI g w a m ou ad S (j + 1) th → Z g x 7 1119 [some (.ref b), some (.ref a), some (.ref m), some (.ref ou), some (.int (nI (6 * j))), l5, l6] [] w R1 R2) : Z g x 7 544 [some (.ref b), some (.ref a), some (.ref m), some (.ref ou), some (.int (nI (6 * j))), l5, l6] [] w (R1 + (200 * j + 400)) (R2 + (2000 * j + 4000)) := by
  have h0 := h
  obtain ⟨hFS, hI, hM, fo, ho⟩ := h
  obtain ⟨lq, d, mm, li, qs, LQ, P, LT, X, E, IX, hfs⟩ := id hFS
  obtain ⟨hB, hX, hR, hV, hE, hLn⟩ := id hfs
  have hA := hB.ab
  have ha := hA.1
  obtain ⟨hX60, hq20⟩ := hfs.X60 hI.1
  refine Z.room (kc' := R1) (ks' := R2) (by omega) (by omega) ?_
  refine Z.aload_n ok dL_law_544 rfl (by first | exact isRf.r _ | exact isRf.n | exact isRf.v _ | assumption) ?_
  refine Z.callV (ci := 0) (q := (RX1, TX1, 5)) (C := RX1) ok (come_ctA hA hB.2.2.2.2.1 hI.1 hI.2.1.2.2.2.2) ha rfl rfl q138 q139 (Or.inl q140) q16 q141 nk_X1_come rfl (by decide) (by first | exact Nat.le_of_ble_eq_true rfl | simp [Value.category, cat_rf]) (Nat.le_refl _) (Nat.le_refl _) dL_law_545 rfl ZX.no (fun v w1 hr => ?_)
  obtain ⟨rfl, r1, r2⟩ := hr
  have hF1 := hfs.dyn r1 r2 (comeS_StS _)
  have hO := r2.O
  have hI1 := hI.come
  have hM1 := hM.frR (fun b y t hb hc => hO b y t hb (by omega))
  have hm1 := hM1.o
  refine Z.aload_n ok dL_law_548 rfl (by first | exact isRf.r _ | exact isRf.n | exact isRf.v _ | assumption) ?_
  refine Z.callV (ci := 1) (q := (RX2, TX2, 15)) (C := RX2) ok (comeM_ct hM1 hI.1) hm1 rfl rfl q1545 q1546 (Or.inl q1547) q22 q1548 nk_X2_come rfl (by decide) (by first | exact Nat.le_of_ble_eq_true rfl | simp [Value.category, cat_rf]) (Nat.le_refl _) (Nat.le_refl _) dL_law_549 rfl ZX.no (fun v w2 hr => ?_)
  obtain ⟨rfl, hM2, hF2⟩ := hr
  refine Z.icmp_eq (tgt := 1119) ok dL_law_552 (by decide) (fun _ => ?_) (fun hc => absurd rfl hc)
  exact kont w2 _ _ _ _ (LI.step0 h0 hO hF1 hF2 hM2 hI1)
theorem law_c7 {x : Cx} {b Ls a m ou j f : Nat} {xs : Nat → Int32} {ad : Nat → Nat} {th : Int32} {l5 l6 : Option Value} {R1 R2 : Nat} (ok : OK g x "AlertIndexLaw" cL_law 7 13 ret) (hs : SX g x b Ls xs) (h : LI g w a m ou ad S j th) (hj : 6 * j + 6 ≤ Ls) (hL : Ls ≤ 384) (kont : ∀ (w : Wd) (S : St) (th : Int32) (l5 l6 : Option Value), LI g w a m ou ad S (j + 1) th → Z g x 7 1119 [some (.ref b), some (.ref a), some (.ref m), some (.ref ou), some (.int (nI (6 * j))), l5, l6] [] w R1 R2) : Z g x 7 557 [some (.ref b), some (.ref a), some (.ref m), some (.ref ou), some (.int (nI (6 * j))), l5, l6] [] w (R1 + (200 * j + 400)) (R2 + (2000 * j + 4000)) := by
  have h0 := h
  obtain ⟨hFS, hI, hM, fo, ho⟩ := h
  refine Z.aload_n ok dL_law_557 rfl (by first | exact isRf.r _ | exact isRf.n | exact isRf.v _ | assumption) ?_
  refine Z.aload_n ok dL_law_558 rfl (by first | exact isRf.r _ | exact isRf.n | exact isRf.v _ | assumption) ?_
  refine Z.iload ok dL_law_559 rfl ?_
  refine Z.iconst_1 ok dL_law_561 ?_
  refine Z.iadd ok dL_law_562 ?_
  refine Z.scr (K := 1) ok hs (by omega) hL rfl dL_law_563 ?_
  refine Z.aload_n ok dL_law_564 rfl (by first | exact isRf.r _ | exact isRf.n | exact isRf.v _ | assumption) ?_
  refine Z.callSW (kc' := R1) (ks' := R2) ok (ladvance_ct hFS hI ho (xs (6 * j + 1))) q1390 q1391 q15 q1392 nk_X0_advance rfl (by decide) (by first | exact Nat.le_of_ble_eq_true rfl | simp [Value.category, cat_rf]) (by omega) (by omega) dL_law_565 rfl ZX.no (fun v w1 hw => ?_)
  have hw0 := hw
  obtain ⟨rfl, hR, hk0, hk1⟩ := hw
  have hM1 := hM.frR hR
  have hm1 := hM1.o
  refine Z.istore ok dL_law_568 (by decide) ?_
  refine Z.aload_n ok dL_law_570 rfl (by first | exact isRf.r _ | exact isRf.n | exact isRf.v _ | assumption) ?_
  refine Z.aload_n ok dL_law_571 rfl (by first | exact isRf.r _ | exact isRf.n | exact isRf.v _ | assumption) ?_
  refine Z.iload ok dL_law_572 rfl ?_
  refine Z.iconst_1 ok dL_law_574 ?_
  refine Z.iadd ok dL_law_575 ?_
  refine Z.scr (K := 1) ok hs (by omega) hL rfl dL_law_576 ?_
  refine Z.callV (ci := 1) (q := (RX2, TX2, 15)) (C := RX2) ok (advanceM_ct hM1 hI.1 (xs (6 * j + 1))) hm1 rfl rfl q1565 q1566 (Or.inl q1567) q22 q1568 nk_X2_advance rfl (by decide) (by first | exact Nat.le_of_ble_eq_true rfl | simp [Value.category, cat_rf]) (Nat.le_refl _) (Nat.le_refl _) dL_law_577 rfl ZX.no (fun v w2 hr => ?_)
  obtain ⟨rfl, hM2, hF2⟩ := hr
  have hm2 := hM2.o
  refine Z.istore ok dL_law_580 (by decide) ?_
  refine Z.aload_n ok dL_law_582 rfl (by first | exact isRf.r _ | exact isRf.n | exact isRf.v _ | assumption) ?_
  refine Z.callV (ci := 1) (q := (RX2, TX2, 15)) (C := RX2) ok (thrown_ct hM2) hm2 rfl rfl q1500 q1501 (Or.inl q1502) q22 q1503 nk_X2_thrown rfl (by decide) (by first | exact Nat.le_of_ble_eq_true rfl | simp [Value.category, cat_rf]) (Nat.le_refl _) (Nat.le_refl _) dL_law_583 rfl ZX.no (fun v w3 hr => ?_)
  obtain ⟨rfl, hM3, hF3⟩ := hr
  refine Z.iload ok dL_law_586 rfl ?_
  refine Z.icmp_eq (tgt := 593) ok dL_law_588 (by decide) (fun _ => ?_) (fun hc => absurd rfl hc)
  refine Z.iload ok dL_law_593 rfl ?_
  have hLI := LI.step (S' := (advS S (xs (6 * j + 1)).toNatClampNeg).1) h0 hw0 (hF2.tr hF3) hM3 (fun hk => (hI.advance (by omega) hk).le (Nat.le_succ j))
  by_cases hk : advK S (xs (6 * j + 1)) = 0
  · refine Z.if_ne (tgt := 610) ok dL_law_595 (by decide) (fun hc => absurd hk hc) (fun _ => ?_)
    obtain ⟨-, f1, ho1, hf1⟩ := hk0 hk
    have ho3 := (hF2.tr hF3) _ _ _ ho1 (by unfold isM; decide)
    refine Z.aload_n ok dL_law_598 rfl (by first | exact isRf.r _ | exact isRf.n | exact isRf.v _ | assumption) ?_
    refine Z.iconst_0 ok dL_law_599 ?_
    refine Z.lald ok ho3 (vp_in_nI (N := 1) (show 0 < 1 by decide) (by decide)) dL_law_600 ?_
    rw [show f1 (0 : Int32).toNatClampNeg = _ from hf1]
    rw [if_pos hk]
    refine Z.iload ok dL_law_601 rfl ?_
    refine Z.i2l ok dL_law_603 rfl ?_
    refine Z.lcmpE ok dL_law_604 ?_
    refine Z.if_eq (tgt := 610) ok dL_law_605 (by decide) (fun _ => ?_) (fun hc => absurd rfl hc)
    refine Z.goto (tgt := 1119) ok dL_law_610 (by decide) ?_
    exact kont w3 _ _ _ _ hLI
  · refine Z.if_ne (tgt := 610) ok dL_law_595 (by decide) (fun _ => ?_) (fun hc => absurd hc hk)
    refine Z.goto (tgt := 1119) ok dL_law_610 (by decide) ?_
    exact kont w3 _ _ _ _ hLI
theorem law_c8 {x : Cx} {b Ls a m ou j f : Nat} {xs : Nat → Int32} {ad : Nat → Nat} {th : Int32} {l5 l6 : Option Value} {R1 R2 : Nat} (ok : OK g x "AlertIndexLaw" cL_law 7 13 ret) (hs : SX g x b Ls xs) (h : LI g w a m ou ad S j th) (hj : 6 * j + 6 ≤ Ls) (hL : Ls ≤ 384) (kont : ∀ (w : Wd) (S : St) (th : Int32) (l5 l6 : Option Value), LI g w a m ou ad S (j + 1) th → Z g x 7 1119 [some (.ref b), some (.ref a), some (.ref m), some (.ref ou), some (.int (nI (6 * j))), l5, l6] [] w R1 R2) : Z g x 7 613 [some (.ref b), some (.ref a), some (.ref m), some (.ref ou), some (.int (nI (6 * j))), l5, l6] [] w (R1 + (200 * j + 400)) (R2 + (2000 * j + 4000)) := by
  have h0 := h
  obtain ⟨hFS, hI, hM, fo, ho⟩ := h
  refine Z.aload_n ok dL_law_613 rfl (by first | exact isRf.r _ | exact isRf.n | exact isRf.v _ | assumption) ?_
  refine Z.aload_n ok dL_law_614 rfl (by first | exact isRf.r _ | exact isRf.n | exact isRf.v _ | assumption) ?_
  refine Z.iload ok dL_law_615 rfl ?_
  refine Z.iconst_1 ok dL_law_617 ?_
  refine Z.iadd ok dL_law_618 ?_
  refine Z.scr (K := 1) ok hs (by omega) hL rfl dL_law_619 ?_
  refine Z.aload_n ok dL_law_620 rfl (by first | exact isRf.r _ | exact isRf.n | exact isRf.v _ | assumption) ?_
  refine Z.callSW (kc' := R1) (ks' := R2) ok (lsatisfies_ct hFS hI ho (xs (6 * j + 1))) q1398 q1399 q15 q1400 nk_X0_satisfies rfl (by decide) (by first | exact Nat.le_of_ble_eq_true rfl | simp [Value.category, cat_rf]) (by omega) (by omega) dL_law_621 rfl ZX.no (fun v w1 hw => ?_)
  have hw0 := hw
  obtain ⟨rfl, hR, hk0, hk1⟩ := hw
  have hM1 := hM.frR hR
  have hm1 := hM1.o
  refine Z.istore ok dL_law_624 (by decide) ?_
  refine Z.aload_n ok dL_law_626 rfl (by first | exact isRf.r _ | exact isRf.n | exact isRf.v _ | assumption) ?_
  refine Z.aload_n ok dL_law_627 rfl (by first | exact isRf.r _ | exact isRf.n | exact isRf.v _ | assumption) ?_
  refine Z.iload ok dL_law_628 rfl ?_
  refine Z.iconst_1 ok dL_law_630 ?_
  refine Z.iadd ok dL_law_631 ?_
  refine Z.scr (K := 1) ok hs (by omega) hL rfl dL_law_632 ?_
  refine Z.callV (ci := 1) (q := (RX2, TX2, 15)) (C := RX2) ok (satisfiesM_ct hM1 hI.1 (xs (6 * j + 1))) hm1 rfl rfl q1570 q1571 (Or.inl q1572) q22 q1573 nk_X2_satisfies rfl (by decide) (by first | exact Nat.le_of_ble_eq_true rfl | simp [Value.category, cat_rf]) (Nat.le_refl _) (Nat.le_refl _) dL_law_633 rfl ZX.no (fun v w2 hr => ?_)
  obtain ⟨rfl, hM2, hF2⟩ := hr
  have hm2 := hM2.o
  refine Z.istore ok dL_law_636 (by decide) ?_
  refine Z.aload_n ok dL_law_638 rfl (by first | exact isRf.r _ | exact isRf.n | exact isRf.v _ | assumption) ?_
  refine Z.callV (ci := 1) (q := (RX2, TX2, 15)) (C := RX2) ok (thrown_ct hM2) hm2 rfl rfl q1500 q1501 (Or.inl q1502) q22 q1503 nk_X2_thrown rfl (by decide) (by first | exact Nat.le_of_ble_eq_true rfl | simp [Value.category, cat_rf]) (Nat.le_refl _) (Nat.le_refl _) dL_law_639 rfl ZX.no (fun v w3 hr => ?_)
  obtain ⟨rfl, hM3, hF3⟩ := hr
  refine Z.iload ok dL_law_642 rfl ?_
  refine Z.icmp_eq (tgt := 649) ok dL_law_644 (by decide) (fun _ => ?_) (fun hc => absurd rfl hc)
  refine Z.iload ok dL_law_649 rfl ?_
  have hLI := LI.step (S' := S) h0 hw0 (hF2.tr hF3) (by rw [ite_self]; exact hM3) (fun _ => hI.le (Nat.le_succ j))
  by_cases hk : qK S (xs (6 * j + 1)) = 0
  · refine Z.if_ne (tgt := 673) ok dL_law_651 (by decide) (fun hc => absurd hk hc) (fun _ => ?_)
    obtain ⟨-, f1, ho1, hf1⟩ := hk0 hk
    have ho3 := (hF2.tr hF3) _ _ _ ho1 (by unfold isM; decide)
    refine Z.aload_n ok dL_law_654 rfl (by first | exact isRf.r _ | exact isRf.n | exact isRf.v _ | assumption) ?_
    refine Z.iconst_0 ok dL_law_655 ?_
    refine Z.lald ok ho3 (vp_in_nI (N := 1) (show 0 < 1 by decide) (by decide)) dL_law_656 ?_
    rw [show f1 (0 : Int32).toNatClampNeg = _ from hf1]
    rw [qK_0 hk, Bool.true_and]
    refine Z.iload ok dL_law_657 rfl ?_
    cases hbb : doesB S (qN (xs (6 * j + 1))) with
    | true =>
      refine Z.if_eq (tgt := 666) ok dL_law_659 (by decide) (fun hc => absurd hc (by decide)) (fun _ => ?_)
      refine Z.lconst (v := 1) ok dL_law_662 (by decide) ?_
      refine Z.goto (tgt := 667) ok dL_law_663 (by decide) ?_
      refine Z.lcmpE ok dL_law_667 ?_
      refine Z.if_eq (tgt := 673) ok dL_law_668 (by decide) (fun _ => ?_) (fun hc => absurd rfl hc)
      refine Z.goto (tgt := 1119) ok dL_law_673 (by decide) ?_
      exact kont w3 _ _ _ _ hLI
    | false =>
      refine Z.if_eq (tgt := 666) ok dL_law_659 (by decide) (fun _ => ?_) (fun hc => absurd (by decide) hc)
      refine Z.lconst (v := 0) ok dL_law_666 (by decide) ?_
      refine Z.lcmpE ok dL_law_667 ?_
      refine Z.if_eq (tgt := 673) ok dL_law_668 (by decide) (fun _ => ?_) (fun hc => absurd rfl hc)
      refine Z.goto (tgt := 1119) ok dL_law_673 (by decide) ?_
      exact kont w3 _ _ _ _ hLI
  · refine Z.if_ne (tgt := 673) ok dL_law_651 (by decide) (fun _ => ?_) (fun hc => absurd hc hk)
    refine Z.goto (tgt := 1119) ok dL_law_673 (by decide) ?_
    exact kont w3 _ _ _ _ hLI
theorem law_c9 {x : Cx} {b Ls a m ou j f : Nat} {xs : Nat → Int32} {ad : Nat → Nat} {th : Int32} {l5 l6 : Option Value} {R1 R2 : Nat} (ok : OK g x "AlertIndexLaw" cL_law 7 13 ret) (hs : SX g x b Ls xs) (h : LI g w a m ou ad S j th) (hj : 6 * j + 6 ≤ Ls) (hL : Ls ≤ 384) (kont : ∀ (w : Wd) (S : St) (th : Int32) (l5 l6 : Option Value), LI g w a m ou ad S (j + 1) th → Z g x 7 1119 [some (.ref b), some (.ref a), some (.ref m), some (.ref ou), some (.int (nI (6 * j))), l5, l6] [] w R1 R2) : Z g x 7 676 [some (.ref b), some (.ref a), some (.ref m), some (.ref ou), some (.int (nI (6 * j))), l5, l6] [] w (R1 + (200 * j + 400)) (R2 + (2000 * j + 4000)) := by
  have h0 := h
  obtain ⟨hFS, hI, hM, fo, ho⟩ := h
  obtain ⟨lq, d, mm, li, qs, LQ, P, LT, X, E, IX, hfs⟩ := id hFS
  obtain ⟨hB, hX, hR, hV, hE, hLn⟩ := id hfs
  have hA := hB.ab
  have ha := hA.1
  obtain ⟨hX60, hq20⟩ := hfs.X60 hI.1
  refine Z.room (kc' := R1) (ks' := R2) (by omega) (by omega) ?_
  refine Z.aload_n ok dL_law_676 rfl (by first | exact isRf.r _ | exact isRf.n | exact isRf.v _ | assumption) ?_
  refine Z.callV (ci := 0) (q := (RX1, TX1, 5)) (C := RX1) ok (matching_ctA hA hI.1) ha rfl rfl q243 q244 (Or.inl q245) q16 q246 nk_X1_matching rfl (by decide) (by first | exact Nat.le_of_ble_eq_true rfl | simp [Value.category, cat_rf]) (Nat.le_refl _) (Nat.le_refl _) dL_law_677 rfl ZX.no (fun v w1 hr => ?_)
  obtain ⟨rfl, rfl⟩ := hr
  have hF1 := hFS.le (Nat.le_succ j)
  have hO : FrO w w := FrO.rf
  have hI1 := hI.le (Nat.le_succ j)
  have hM1 := hM.frR (fun b y t hb hc => hO b y t hb (by omega))
  have hm1 := hM1.o
  refine Z.aload_n ok dL_law_680 rfl (by first | exact isRf.r _ | exact isRf.n | exact isRf.v _ | assumption) ?_
  refine Z.callV (ci := 1) (q := (RX2, TX2, 15)) (C := RX2) ok (matchingM_ct hM1 hI.1) hm1 rfl rfl q1574 q1575 (Or.inl q1576) q22 q1577 nk_X2_matching rfl (by decide) (by first | exact Nat.le_of_ble_eq_true rfl | simp [Value.category, cat_rf]) (Nat.le_refl _) (Nat.le_refl _) dL_law_681 rfl ZX.no (fun v w2 hr => ?_)
  obtain ⟨rfl, hM2, hF2⟩ := hr
  refine Z.icmp_eq (tgt := 1119) ok dL_law_684 (by decide) (fun _ => ?_) (fun hc => absurd rfl hc)
  exact kont w2 _ _ _ _ (LI.step0 h0 hO hF1 hF2 hM2 hI1)
theorem law_c10 {x : Cx} {b Ls a m ou j f : Nat} {xs : Nat → Int32} {ad : Nat → Nat} {th : Int32} {l5 l6 : Option Value} {R1 R2 : Nat} (ok : OK g x "AlertIndexLaw" cL_law 7 13 ret) (hs : SX g x b Ls xs) (h : LI g w a m ou ad S j th) (hj : 6 * j + 6 ≤ Ls) (hL : Ls ≤ 384) (kont : ∀ (w : Wd) (S : St) (th : Int32) (l5 l6 : Option Value), LI g w a m ou ad S (j + 1) th → Z g x 7 1119 [some (.ref b), some (.ref a), some (.ref m), some (.ref ou), some (.int (nI (6 * j))), l5, l6] [] w R1 R2) : Z g x 7 689 [some (.ref b), some (.ref a), some (.ref m), some (.ref ou), some (.int (nI (6 * j))), l5, l6] [] w (R1 + (200 * j + 400)) (R2 + (2000 * j + 4000)) := by
  have h0 := h
  obtain ⟨hFS, hI, hM, fo, ho⟩ := h
  obtain ⟨lq, d, mm, li, qs, LQ, P, LT, X, E, IX, hfs⟩ := id hFS
  obtain ⟨hB, hX, hR, hV, hE, hLn⟩ := id hfs
  have hA := hB.ab
  have ha := hA.1
  obtain ⟨hX60, hq20⟩ := hfs.X60 hI.1
  refine Z.aload_n ok dL_law_689 rfl (by first | exact isRf.r _ | exact isRf.n | exact isRf.v _ | assumption) ?_
  refine Z.callV (kc' := R1) (ks' := R2) (ci := 0) (q := (RX1, TX1, 5)) (C := RX1) ok (mbi_ctA hB hX hI.1 hR (by omega) (by omega) hV (fun n a b => by have := hLn n a b; omega)) ha rfl rfl q247 q248 (Or.inl q249) q16 q250 nk_X1_matchingByIndex rfl (by decide) (by first | exact Nat.le_of_ble_eq_true rfl | simp [Value.category, cat_rf]) (by omega) (by omega) dL_law_690 rfl ZX.no (fun v w1 hr => ?_)
  obtain ⟨rfl, r1, r2, hO⟩ := hr
  have hF1 : FS g w1 a S (j + 1) := FS.le ⟨lq, d, mm, li, qs, LQ, P, LT, X, E, IX, r1, r2, hR, hV, hE, hLn⟩ (Nat.le_succ j)
  have hI1 := hI.le (Nat.le_succ j)
  have hM1 := hM.frR (fun b y t hb hc => hO b y t hb (by omega))
  have hm1 := hM1.o
  refine Z.aload_n ok dL_law_693 rfl (by first | exact isRf.r _ | exact isRf.n | exact isRf.v _ | assumption) ?_
  refine Z.callV (ci := 1) (q := (RX2, TX2, 15)) (C := RX2) ok (matchingByIndexM_ct hM1 hI.1) hm1 rfl rfl q1582 q1583 (Or.inl q1584) q22 q1585 nk_X2_matchingByIndex rfl (by decide) (by first | exact Nat.le_of_ble_eq_true rfl | simp [Value.category, cat_rf]) (Nat.le_refl _) (Nat.le_refl _) dL_law_694 rfl ZX.no (fun v w2 hr => ?_)
  obtain ⟨rfl, hM2, hF2⟩ := hr
  refine Z.icmp_eq (tgt := 1119) ok dL_law_697 (by decide) (fun _ => ?_) (fun hc => absurd rfl hc)
  exact kont w2 _ _ _ _ (LI.step0 h0 hO hF1 hF2 hM2 hI1)
theorem law_c11 {x : Cx} {b Ls a m ou j f : Nat} {xs : Nat → Int32} {ad : Nat → Nat} {th : Int32} {l5 l6 : Option Value} {R1 R2 : Nat} (ok : OK g x "AlertIndexLaw" cL_law 7 13 ret) (hs : SX g x b Ls xs) (h : LI g w a m ou ad S j th) (hj : 6 * j + 6 ≤ Ls) (hL : Ls ≤ 384) (kont : ∀ (w : Wd) (S : St) (th : Int32) (l5 l6 : Option Value), LI g w a m ou ad S (j + 1) th → Z g x 7 1119 [some (.ref b), some (.ref a), some (.ref m), some (.ref ou), some (.int (nI (6 * j))), l5, l6] [] w R1 R2) : Z g x 7 702 [some (.ref b), some (.ref a), some (.ref m), some (.ref ou), some (.int (nI (6 * j))), l5, l6] [] w (R1 + (200 * j + 400)) (R2 + (2000 * j + 4000)) := by
  have h0 := h
  obtain ⟨hFS, hI, hM, fo, ho⟩ := h
  refine Z.aload_n ok dL_law_702 rfl (by first | exact isRf.r _ | exact isRf.n | exact isRf.v _ | assumption) ?_
  refine Z.aload_n ok dL_law_703 rfl (by first | exact isRf.r _ | exact isRf.n | exact isRf.v _ | assumption) ?_
  refine Z.iload ok dL_law_704 rfl ?_
  refine Z.iconst_1 ok dL_law_706 ?_
  refine Z.iadd ok dL_law_707 ?_
  refine Z.scr (K := 1) ok hs (by omega) hL rfl dL_law_708 ?_
  refine Z.aload_n ok dL_law_709 rfl (by first | exact isRf.r _ | exact isRf.n | exact isRf.v _ | assumption) ?_
  refine Z.callSW (kc' := R1) (ks' := R2) ok (lsizeOf_ct hFS hI ho (xs (6 * j + 1))) q1405 q1406 q15 q1407 nk_X0_sizeOf rfl (by decide) (by first | exact Nat.le_of_ble_eq_true rfl | simp [Value.category, cat_rf]) (by omega) (by omega) dL_law_710 rfl ZX.no (fun v w1 hw => ?_)
  have hw0 := hw
  obtain ⟨rfl, hR, hk0, hk1⟩ := hw
  have hM1 := hM.frR hR
  have hm1 := hM1.o
  refine Z.istore ok dL_law_713 (by decide) ?_
  refine Z.aload_n ok dL_law_715 rfl (by first | exact isRf.r _ | exact isRf.n | exact isRf.v _ | assumption) ?_
  refine Z.aload_n ok dL_law_716 rfl (by first | exact isRf.r _ | exact isRf.n | exact isRf.v _ | assumption) ?_
  refine Z.iload ok dL_law_717 rfl ?_
  refine Z.iconst_1 ok dL_law_719 ?_
  refine Z.iadd ok dL_law_720 ?_
  refine Z.scr (K := 1) ok hs (by omega) hL rfl dL_law_721 ?_
  refine Z.callV (ci := 1) (q := (RX2, TX2, 15)) (C := RX2) ok (sizeOfM_ct hM1 hI.1 (xs (6 * j + 1))) hm1 rfl rfl q1586 q1587 (Or.inl q1588) q22 q1589 nk_X2_sizeOf rfl (by decide) (by first | exact Nat.le_of_ble_eq_true rfl | simp [Value.category, cat_rf]) (Nat.le_refl _) (Nat.le_refl _) dL_law_722 rfl ZX.no (fun v w2 hr => ?_)
  obtain ⟨rfl, hM2, hF2⟩ := hr
  have hm2 := hM2.o
  refine Z.istore ok dL_law_725 (by decide) ?_
  refine Z.aload_n ok dL_law_727 rfl (by first | exact isRf.r _ | exact isRf.n | exact isRf.v _ | assumption) ?_
  refine Z.callV (ci := 1) (q := (RX2, TX2, 15)) (C := RX2) ok (thrown_ct hM2) hm2 rfl rfl q1500 q1501 (Or.inl q1502) q22 q1503 nk_X2_thrown rfl (by decide) (by first | exact Nat.le_of_ble_eq_true rfl | simp [Value.category, cat_rf]) (Nat.le_refl _) (Nat.le_refl _) dL_law_728 rfl ZX.no (fun v w3 hr => ?_)
  obtain ⟨rfl, hM3, hF3⟩ := hr
  refine Z.iload ok dL_law_731 rfl ?_
  refine Z.icmp_eq (tgt := 738) ok dL_law_733 (by decide) (fun _ => ?_) (fun hc => absurd rfl hc)
  refine Z.iload ok dL_law_738 rfl ?_
  have hLI := LI.step (S' := S) h0 hw0 (hF2.tr hF3) (by rw [ite_self]; exact hM3) (fun _ => hI.le (Nat.le_succ j))
  by_cases hk : qK S (xs (6 * j + 1)) = 0
  · refine Z.if_ne (tgt := 755) ok dL_law_740 (by decide) (fun hc => absurd hk hc) (fun _ => ?_)
    obtain ⟨-, f1, ho1, hf1⟩ := hk0 hk
    have ho3 := (hF2.tr hF3) _ _ _ ho1 (by unfold isM; decide)
    refine Z.aload_n ok dL_law_743 rfl (by first | exact isRf.r _ | exact isRf.n | exact isRf.v _ | assumption) ?_
    refine Z.iconst_0 ok dL_law_744 ?_
    refine Z.lald ok ho3 (vp_in_nI (N := 1) (show 0 < 1 by decide) (by decide)) dL_law_745 ?_
    rw [show f1 (0 : Int32).toNatClampNeg = _ from hf1]
    rw [if_pos hk]
    refine Z.iload ok dL_law_746 rfl ?_
    refine Z.i2l ok dL_law_748 rfl ?_
    refine Z.lcmpE ok dL_law_749 ?_
    refine Z.if_eq (tgt := 755) ok dL_law_750 (by decide) (fun _ => ?_) (fun hc => absurd rfl hc)
    refine Z.goto (tgt := 1119) ok dL_law_755 (by decide) ?_
    exact kont w3 _ _ _ _ hLI
  · refine Z.if_ne (tgt := 755) ok dL_law_740 (by decide) (fun _ => ?_) (fun hc => absurd hc hk)
    refine Z.goto (tgt := 1119) ok dL_law_755 (by decide) ?_
    exact kont w3 _ _ _ _ hLI
theorem law_c12 {x : Cx} {b Ls a m ou j f : Nat} {xs : Nat → Int32} {ad : Nat → Nat} {th : Int32} {l5 l6 : Option Value} {R1 R2 : Nat} (ok : OK g x "AlertIndexLaw" cL_law 7 13 ret) (hs : SX g x b Ls xs) (h : LI g w a m ou ad S j th) (hj : 6 * j + 6 ≤ Ls) (hL : Ls ≤ 384) (kont : ∀ (w : Wd) (S : St) (th : Int32) (l5 l6 : Option Value), LI g w a m ou ad S (j + 1) th → Z g x 7 1119 [some (.ref b), some (.ref a), some (.ref m), some (.ref ou), some (.int (nI (6 * j))), l5, l6] [] w R1 R2) : Z g x 7 758 [some (.ref b), some (.ref a), some (.ref m), some (.ref ou), some (.int (nI (6 * j))), l5, l6] [] w (R1 + (200 * j + 400)) (R2 + (2000 * j + 4000)) := by
  have h0 := h
  obtain ⟨hFS, hI, hM, fo, ho⟩ := h
  obtain ⟨lq, d, mm, li, qs, LQ, P, LT, X, E, IX, hfs⟩ := id hFS
  obtain ⟨hB, hX, hR, hV, hE, hLn⟩ := id hfs
  have hA := hB.ab
  have ha := hA.1
  obtain ⟨hX60, hq20⟩ := hfs.X60 hI.1
  refine Z.room (kc' := R1) (ks' := R2) (by omega) (by omega) ?_
  refine Z.aload_n ok dL_law_758 rfl (by first | exact isRf.r _ | exact isRf.n | exact isRf.v _ | assumption) ?_
  refine Z.aload_n ok dL_law_759 rfl (by first | exact isRf.r _ | exact isRf.n | exact isRf.v _ | assumption) ?_
  refine Z.iload ok dL_law_760 rfl ?_
  refine Z.iconst_1 ok dL_law_762 ?_
  refine Z.iadd ok dL_law_763 ?_
  refine Z.scr (K := 1) ok hs (by omega) hL rfl dL_law_764 ?_
  refine Z.callV (ci := 0) (q := (RX1, TX1, 5)) (C := RX1) ok (withSize_ctA hA hI.1 (xs (6 * j + 1))) ha rfl rfl q958 q959 (Or.inl q960) q16 q961 nk_X1_withSize rfl (by decide) (by first | exact Nat.le_of_ble_eq_true rfl | simp [Value.category, cat_rf]) (Nat.le_refl _) (Nat.le_refl _) dL_law_765 rfl ZX.no (fun v w1 hr => ?_)
  obtain ⟨rfl, rfl⟩ := hr
  have hF1 := hFS.le (Nat.le_succ j)
  have hO : FrO w w := FrO.rf
  have hI1 := hI.le (Nat.le_succ j)
  have hM1 := hM.frR (fun b y t hb hc => hO b y t hb (by omega))
  have hm1 := hM1.o
  refine Z.aload_n ok dL_law_768 rfl (by first | exact isRf.r _ | exact isRf.n | exact isRf.v _ | assumption) ?_
  refine Z.aload_n ok dL_law_769 rfl (by first | exact isRf.r _ | exact isRf.n | exact isRf.v _ | assumption) ?_
  refine Z.iload ok dL_law_770 rfl ?_
  refine Z.iconst_1 ok dL_law_772 ?_
  refine Z.iadd ok dL_law_773 ?_
  refine Z.scr (K := 1) ok hs (by omega) hL rfl dL_law_774 ?_
  refine Z.callV (ci := 1) (q := (RX2, TX2, 15)) (C := RX2) ok (withSizeM_ct hM1 hI.1 (xs (6 * j + 1))) hm1 rfl rfl q1594 q1595 (Or.inl q1596) q22 q1597 nk_X2_withSize rfl (by decide) (by first | exact Nat.le_of_ble_eq_true rfl | simp [Value.category, cat_rf]) (Nat.le_refl _) (Nat.le_refl _) dL_law_775 rfl ZX.no (fun v w2 hr => ?_)
  obtain ⟨rfl, hM2, hF2⟩ := hr
  refine Z.icmp_eq (tgt := 1119) ok dL_law_778 (by decide) (fun _ => ?_) (fun hc => absurd rfl hc)
  exact kont w2 _ _ _ _ (LI.step0 h0 hO hF1 hF2 hM2 hI1)
theorem law_c13 {x : Cx} {b Ls a m ou j f : Nat} {xs : Nat → Int32} {ad : Nat → Nat} {th : Int32} {l5 l6 : Option Value} {R1 R2 : Nat} (ok : OK g x "AlertIndexLaw" cL_law 7 13 ret) (hs : SX g x b Ls xs) (h : LI g w a m ou ad S j th) (hj : 6 * j + 6 ≤ Ls) (hL : Ls ≤ 384) (kont : ∀ (w : Wd) (S : St) (th : Int32) (l5 l6 : Option Value), LI g w a m ou ad S (j + 1) th → Z g x 7 1119 [some (.ref b), some (.ref a), some (.ref m), some (.ref ou), some (.int (nI (6 * j))), l5, l6] [] w R1 R2) : Z g x 7 783 [some (.ref b), some (.ref a), some (.ref m), some (.ref ou), some (.int (nI (6 * j))), l5, l6] [] w (R1 + (200 * j + 400)) (R2 + (2000 * j + 4000)) := by
  have h0 := h
  obtain ⟨hFS, hI, hM, fo, ho⟩ := h
  refine Z.aload_n ok dL_law_783 rfl (by first | exact isRf.r _ | exact isRf.n | exact isRf.v _ | assumption) ?_
  refine Z.aload_n ok dL_law_784 rfl (by first | exact isRf.r _ | exact isRf.n | exact isRf.v _ | assumption) ?_
  refine Z.iload ok dL_law_785 rfl ?_
  refine Z.iconst_1 ok dL_law_787 ?_
  refine Z.iadd ok dL_law_788 ?_
  refine Z.scr (K := 1) ok hs (by omega) hL rfl dL_law_789 ?_
  refine Z.aload_n ok dL_law_790 rfl (by first | exact isRf.r _ | exact isRf.n | exact isRf.v _ | assumption) ?_
  refine Z.iload ok dL_law_791 rfl ?_
  refine Z.iconst_2 ok dL_law_793 ?_
  refine Z.iadd ok dL_law_794 ?_
  refine Z.scr (K := 2) ok hs (by omega) hL rfl dL_law_795 ?_
  refine Z.aload_n ok dL_law_796 rfl (by first | exact isRf.r _ | exact isRf.n | exact isRf.v _ | assumption) ?_
  refine Z.callSW (kc' := R1) (ks' := R2) ok (lpieces_ct hFS hI ho (xs (6 * j + 1)) (xs (6 * j + 2))) q1412 q1413 q15 q1414 nk_X0_pieces rfl (by decide) (by first | exact Nat.le_of_ble_eq_true rfl | simp [Value.category, cat_rf]) (by omega) (by omega) dL_law_797 rfl ZX.no (fun v w1 hw => ?_)
  have hw0 := hw
  obtain ⟨rfl, hR, hk0, hk1⟩ := hw
  have hM1 := hM.frR hR
  have hm1 := hM1.o
  refine Z.istore ok dL_law_800 (by decide) ?_
  refine Z.aload_n ok dL_law_802 rfl (by first | exact isRf.r _ | exact isRf.n | exact isRf.v _ | assumption) ?_
  refine Z.aload_n ok dL_law_803 rfl (by first | exact isRf.r _ | exact isRf.n | exact isRf.v _ | assumption) ?_
  refine Z.iload ok dL_law_804 rfl ?_
  refine Z.iconst_1 ok dL_law_806 ?_
  refine Z.iadd ok dL_law_807 ?_
  refine Z.scr (K := 1) ok hs (by omega) hL rfl dL_law_808 ?_
  refine Z.aload_n ok dL_law_809 rfl (by first | exact isRf.r _ | exact isRf.n | exact isRf.v _ | assumption) ?_
  refine Z.iload ok dL_law_810 rfl ?_
  refine Z.iconst_2 ok dL_law_812 ?_
  refine Z.iadd ok dL_law_813 ?_
  refine Z.scr (K := 2) ok hs (by omega) hL rfl dL_law_814 ?_
  refine Z.callV (ci := 1) (q := (RX2, TX2, 15)) (C := RX2) ok (piecesM_ct hM1 (xs (6 * j + 1)) (xs (6 * j + 2))) hm1 rfl rfl q1598 q1599 (Or.inl q1600) q22 q1601 nk_X2_pieces rfl (by decide) (by first | exact Nat.le_of_ble_eq_true rfl | simp [Value.category, cat_rf]) (Nat.le_refl _) (Nat.le_refl _) dL_law_815 rfl ZX.no (fun v w2 hr => ?_)
  obtain ⟨rfl, hM2, hF2⟩ := hr
  have hm2 := hM2.o
  refine Z.istore ok dL_law_818 (by decide) ?_
  refine Z.aload_n ok dL_law_820 rfl (by first | exact isRf.r _ | exact isRf.n | exact isRf.v _ | assumption) ?_
  refine Z.callV (ci := 1) (q := (RX2, TX2, 15)) (C := RX2) ok (thrown_ct hM2) hm2 rfl rfl q1500 q1501 (Or.inl q1502) q22 q1503 nk_X2_thrown rfl (by decide) (by first | exact Nat.le_of_ble_eq_true rfl | simp [Value.category, cat_rf]) (Nat.le_refl _) (Nat.le_refl _) dL_law_821 rfl ZX.no (fun v w3 hr => ?_)
  obtain ⟨rfl, hM3, hF3⟩ := hr
  refine Z.iload ok dL_law_824 rfl ?_
  refine Z.icmp_eq (tgt := 831) ok dL_law_826 (by decide) (fun _ => ?_) (fun hc => absurd rfl hc)
  refine Z.iload ok dL_law_831 rfl ?_
  have hLI := LI.step (S' := S) h0 hw0 (hF2.tr hF3) (by rw [ite_self]; exact hM3) (fun _ => hI.le (Nat.le_succ j))
  by_cases hk : rngK (xs (6 * j + 1)) (xs (6 * j + 2)) = 0
  · refine Z.if_ne (tgt := 848) ok dL_law_833 (by decide) (fun hc => absurd hk hc) (fun _ => ?_)
    obtain ⟨-, f1, ho1, hf1⟩ := hk0 hk
    have ho3 := (hF2.tr hF3) _ _ _ ho1 (by unfold isM; decide)
    refine Z.aload_n ok dL_law_836 rfl (by first | exact isRf.r _ | exact isRf.n | exact isRf.v _ | assumption) ?_
    refine Z.iconst_0 ok dL_law_837 ?_
    refine Z.lald ok ho3 (vp_in_nI (N := 1) (show 0 < 1 by decide) (by decide)) dL_law_838 ?_
    rw [show f1 (0 : Int32).toNatClampNeg = _ from hf1]
    rw [if_pos hk]
    refine Z.iload ok dL_law_839 rfl ?_
    refine Z.i2l ok dL_law_841 rfl ?_
    refine Z.lcmpE ok dL_law_842 ?_
    refine Z.if_eq (tgt := 848) ok dL_law_843 (by decide) (fun _ => ?_) (fun hc => absurd rfl hc)
    refine Z.goto (tgt := 1119) ok dL_law_848 (by decide) ?_
    exact kont w3 _ _ _ _ hLI
  · refine Z.if_ne (tgt := 848) ok dL_law_833 (by decide) (fun _ => ?_) (fun hc => absurd hc hk)
    refine Z.goto (tgt := 1119) ok dL_law_848 (by decide) ?_
    exact kont w3 _ _ _ _ hLI
theorem law_c14 {x : Cx} {b Ls a m ou j f : Nat} {xs : Nat → Int32} {ad : Nat → Nat} {th : Int32} {l5 l6 : Option Value} {R1 R2 : Nat} (ok : OK g x "AlertIndexLaw" cL_law 7 13 ret) (hs : SX g x b Ls xs) (h : LI g w a m ou ad S j th) (hj : 6 * j + 6 ≤ Ls) (hL : Ls ≤ 384) (kont : ∀ (w : Wd) (S : St) (th : Int32) (l5 l6 : Option Value), LI g w a m ou ad S (j + 1) th → Z g x 7 1119 [some (.ref b), some (.ref a), some (.ref m), some (.ref ou), some (.int (nI (6 * j))), l5, l6] [] w R1 R2) : Z g x 7 851 [some (.ref b), some (.ref a), some (.ref m), some (.ref ou), some (.int (nI (6 * j))), l5, l6] [] w (R1 + (200 * j + 400)) (R2 + (2000 * j + 4000)) := by
  have h0 := h
  obtain ⟨hFS, hI, hM, fo, ho⟩ := h
  refine Z.aload_n ok dL_law_851 rfl (by first | exact isRf.r _ | exact isRf.n | exact isRf.v _ | assumption) ?_
  refine Z.aload_n ok dL_law_852 rfl (by first | exact isRf.r _ | exact isRf.n | exact isRf.v _ | assumption) ?_
  refine Z.iload ok dL_law_853 rfl ?_
  refine Z.iconst_1 ok dL_law_855 ?_
  refine Z.iadd ok dL_law_856 ?_
  refine Z.scr (K := 1) ok hs (by omega) hL rfl dL_law_857 ?_
  refine Z.aload_n ok dL_law_858 rfl (by first | exact isRf.r _ | exact isRf.n | exact isRf.v _ | assumption) ?_
  refine Z.iload ok dL_law_859 rfl ?_
  refine Z.iconst_2 ok dL_law_861 ?_
  refine Z.iadd ok dL_law_862 ?_
  refine Z.scr (K := 2) ok hs (by omega) hL rfl dL_law_863 ?_
  refine Z.aload_n ok dL_law_864 rfl (by first | exact isRf.r _ | exact isRf.n | exact isRf.v _ | assumption) ?_
  refine Z.iload ok dL_law_865 rfl ?_
  refine Z.iconst_3 ok dL_law_867 ?_
  refine Z.iadd ok dL_law_868 ?_
  refine Z.scr (K := 3) ok hs (by omega) hL rfl dL_law_869 ?_
  refine Z.aload_n ok dL_law_870 rfl (by first | exact isRf.r _ | exact isRf.n | exact isRf.v _ | assumption) ?_
  refine Z.callSW (kc' := R1) (ks' := R2) ok (lpieceAt_ct hFS hI ho (xs (6 * j + 1)) (xs (6 * j + 2)) (xs (6 * j + 3))) q1419 q1420 q15 q1421 nk_X0_pieceAt rfl (by decide) (by first | exact Nat.le_of_ble_eq_true rfl | simp [Value.category, cat_rf]) (by omega) (by omega) dL_law_871 rfl ZX.no (fun v w1 hw => ?_)
  have hw0 := hw
  obtain ⟨rfl, hR, hk0, hk1⟩ := hw
  have hM1 := hM.frR hR
  have hm1 := hM1.o
  refine Z.istore ok dL_law_874 (by decide) ?_
  refine Z.aload_n ok dL_law_876 rfl (by first | exact isRf.r _ | exact isRf.n | exact isRf.v _ | assumption) ?_
  refine Z.aload_n ok dL_law_877 rfl (by first | exact isRf.r _ | exact isRf.n | exact isRf.v _ | assumption) ?_
  refine Z.iload ok dL_law_878 rfl ?_
  refine Z.iconst_1 ok dL_law_880 ?_
  refine Z.iadd ok dL_law_881 ?_
  refine Z.scr (K := 1) ok hs (by omega) hL rfl dL_law_882 ?_
  refine Z.aload_n ok dL_law_883 rfl (by first | exact isRf.r _ | exact isRf.n | exact isRf.v _ | assumption) ?_
  refine Z.iload ok dL_law_884 rfl ?_
  refine Z.iconst_2 ok dL_law_886 ?_
  refine Z.iadd ok dL_law_887 ?_
  refine Z.scr (K := 2) ok hs (by omega) hL rfl dL_law_888 ?_
  refine Z.aload_n ok dL_law_889 rfl (by first | exact isRf.r _ | exact isRf.n | exact isRf.v _ | assumption) ?_
  refine Z.iload ok dL_law_890 rfl ?_
  refine Z.iconst_3 ok dL_law_892 ?_
  refine Z.iadd ok dL_law_893 ?_
  refine Z.scr (K := 3) ok hs (by omega) hL rfl dL_law_894 ?_
  refine Z.callV (ci := 1) (q := (RX2, TX2, 15)) (C := RX2) ok (pieceAtM_ct hM1 (xs (6 * j + 1)) (xs (6 * j + 2)) (xs (6 * j + 3))) hm1 rfl rfl q1605 q1606 (Or.inl q1607) q22 q1608 nk_X2_pieceAt rfl (by decide) (by first | exact Nat.le_of_ble_eq_true rfl | simp [Value.category, cat_rf]) (Nat.le_refl _) (Nat.le_refl _) dL_law_895 rfl ZX.no (fun v w2 hr => ?_)
  obtain ⟨rfl, hM2, hF2⟩ := hr
  have hm2 := hM2.o
  refine Z.istore ok dL_law_898 (by decide) ?_
  refine Z.aload_n ok dL_law_900 rfl (by first | exact isRf.r _ | exact isRf.n | exact isRf.v _ | assumption) ?_
  refine Z.callV (ci := 1) (q := (RX2, TX2, 15)) (C := RX2) ok (thrown_ct hM2) hm2 rfl rfl q1500 q1501 (Or.inl q1502) q22 q1503 nk_X2_thrown rfl (by decide) (by first | exact Nat.le_of_ble_eq_true rfl | simp [Value.category, cat_rf]) (Nat.le_refl _) (Nat.le_refl _) dL_law_901 rfl ZX.no (fun v w3 hr => ?_)
  obtain ⟨rfl, hM3, hF3⟩ := hr
  refine Z.iload ok dL_law_904 rfl ?_
  refine Z.icmp_eq (tgt := 911) ok dL_law_906 (by decide) (fun _ => ?_) (fun hc => absurd rfl hc)
  refine Z.iload ok dL_law_911 rfl ?_
  have hLI := LI.step (S' := S) h0 hw0 (hF2.tr hF3) (by rw [ite_self]; exact hM3) (fun _ => hI.le (Nat.le_succ j))
  by_cases hk : patK (xs (6 * j + 1)) (xs (6 * j + 2)) (xs (6 * j + 3)) = 0
  · refine Z.if_ne (tgt := 928) ok dL_law_913 (by decide) (fun hc => absurd hk hc) (fun _ => ?_)
    obtain ⟨-, f1, ho1, hf1⟩ := hk0 hk
    have ho3 := (hF2.tr hF3) _ _ _ ho1 (by unfold isM; decide)
    refine Z.aload_n ok dL_law_916 rfl (by first | exact isRf.r _ | exact isRf.n | exact isRf.v _ | assumption) ?_
    refine Z.iconst_0 ok dL_law_917 ?_
    refine Z.lald ok ho3 (vp_in_nI (N := 1) (show 0 < 1 by decide) (by decide)) dL_law_918 ?_
    rw [show f1 (0 : Int32).toNatClampNeg = _ from hf1]
    rw [if_pos hk]
    refine Z.iload ok dL_law_919 rfl ?_
    refine Z.i2l ok dL_law_921 rfl ?_
    refine Z.lcmpE ok dL_law_922 ?_
    refine Z.if_eq (tgt := 928) ok dL_law_923 (by decide) (fun _ => ?_) (fun hc => absurd rfl hc)
    refine Z.goto (tgt := 1119) ok dL_law_928 (by decide) ?_
    exact kont w3 _ _ _ _ hLI
  · refine Z.if_ne (tgt := 928) ok dL_law_913 (by decide) (fun _ => ?_) (fun hc => absurd hc hk)
    refine Z.goto (tgt := 1119) ok dL_law_928 (by decide) ?_
    exact kont w3 _ _ _ _ hLI
theorem law_c15 {x : Cx} {b Ls a m ou j f : Nat} {xs : Nat → Int32} {ad : Nat → Nat} {th : Int32} {l5 l6 : Option Value} {R1 R2 : Nat} (ok : OK g x "AlertIndexLaw" cL_law 7 13 ret) (hs : SX g x b Ls xs) (h : LI g w a m ou ad S j th) (hj : 6 * j + 6 ≤ Ls) (hL : Ls ≤ 384) (kont : ∀ (w : Wd) (S : St) (th : Int32) (l5 l6 : Option Value), LI g w a m ou ad S (j + 1) th → Z g x 7 1119 [some (.ref b), some (.ref a), some (.ref m), some (.ref ou), some (.int (nI (6 * j))), l5, l6] [] w R1 R2) : Z g x 7 931 [some (.ref b), some (.ref a), some (.ref m), some (.ref ou), some (.int (nI (6 * j))), l5, l6] [] w (R1 + (200 * j + 400)) (R2 + (2000 * j + 4000)) := by
  have h0 := h
  obtain ⟨hFS, hI, hM, fo, ho⟩ := h
  obtain ⟨lq, d, mm, li, qs, LQ, P, LT, X, E, IX, hfs⟩ := id hFS
  obtain ⟨hB, hX, hR, hV, hE, hLn⟩ := id hfs
  have hA := hB.ab
  have ha := hA.1
  obtain ⟨hX60, hq20⟩ := hfs.X60 hI.1
  refine Z.room (kc' := R1) (ks' := R2) (by omega) (by omega) ?_
  refine Z.aload_n ok dL_law_931 rfl (by first | exact isRf.r _ | exact isRf.n | exact isRf.v _ | assumption) ?_
  refine Z.callV (ci := 0) (q := (RX1, TX1, 5)) (C := RX1) ok (minute_ctA hA) ha rfl rfl q977 q978 (Or.inl q979) q16 q980 nk_X1_minute rfl (by decide) (by first | exact Nat.le_of_ble_eq_true rfl | simp [Value.category, cat_rf]) (Nat.le_refl _) (Nat.le_refl _) dL_law_932 rfl ZX.no (fun v w1 hr => ?_)
  obtain ⟨rfl, rfl⟩ := hr
  have hF1 := hFS.le (Nat.le_succ j)
  have hO : FrO w w := FrO.rf
  have hI1 := hI.le (Nat.le_succ j)
  have hM1 := hM.frR (fun b y t hb hc => hO b y t hb (by omega))
  have hm1 := hM1.o
  refine Z.aload_n ok dL_law_935 rfl (by first | exact isRf.r _ | exact isRf.n | exact isRf.v _ | assumption) ?_
  refine Z.callV (ci := 1) (q := (RX2, TX2, 15)) (C := RX2) ok (minuteM_ct hM1) hm1 rfl rfl q1609 q1610 (Or.inl q1611) q22 q1612 nk_X2_minute rfl (by decide) (by first | exact Nat.le_of_ble_eq_true rfl | simp [Value.category, cat_rf]) (Nat.le_refl _) (Nat.le_refl _) dL_law_936 rfl ZX.no (fun v w2 hr => ?_)
  obtain ⟨rfl, hM2, hF2⟩ := hr
  refine Z.icmp_eq (tgt := 1119) ok dL_law_939 (by decide) (fun _ => ?_) (fun hc => absurd rfl hc)
  exact kont w2 _ _ _ _ (LI.step0 h0 hO hF1 hF2 hM2 hI1)
theorem law_c16 {x : Cx} {b Ls a m ou j f : Nat} {xs : Nat → Int32} {ad : Nat → Nat} {th : Int32} {l5 l6 : Option Value} {R1 R2 : Nat} (ok : OK g x "AlertIndexLaw" cL_law 7 13 ret) (hs : SX g x b Ls xs) (h : LI g w a m ou ad S j th) (hj : 6 * j + 6 ≤ Ls) (hL : Ls ≤ 384) (kont : ∀ (w : Wd) (S : St) (th : Int32) (l5 l6 : Option Value), LI g w a m ou ad S (j + 1) th → Z g x 7 1119 [some (.ref b), some (.ref a), some (.ref m), some (.ref ou), some (.int (nI (6 * j))), l5, l6] [] w R1 R2) : Z g x 7 944 [some (.ref b), some (.ref a), some (.ref m), some (.ref ou), some (.int (nI (6 * j))), l5, l6] [] w (R1 + (200 * j + 400)) (R2 + (2000 * j + 4000)) := by
  have h0 := h
  obtain ⟨hFS, hI, hM, fo, ho⟩ := h
  refine Z.aload_n ok dL_law_944 rfl (by first | exact isRf.r _ | exact isRf.n | exact isRf.v _ | assumption) ?_
  refine Z.aload_n ok dL_law_945 rfl (by first | exact isRf.r _ | exact isRf.n | exact isRf.v _ | assumption) ?_
  refine Z.iload ok dL_law_946 rfl ?_
  refine Z.iconst_1 ok dL_law_948 ?_
  refine Z.iadd ok dL_law_949 ?_
  refine Z.scr (K := 1) ok hs (by omega) hL rfl dL_law_950 ?_
  refine Z.aload_n ok dL_law_951 rfl (by first | exact isRf.r _ | exact isRf.n | exact isRf.v _ | assumption) ?_
  refine Z.callSW (kc' := R1) (ks' := R2) ok (lisQuiet_ct hFS hI ho (xs (6 * j + 1))) q1426 q1427 q15 q1428 nk_X0_isQuiet rfl (by decide) (by first | exact Nat.le_of_ble_eq_true rfl | simp [Value.category, cat_rf]) (by omega) (by omega) dL_law_952 rfl ZX.no (fun v w1 hw => ?_)
  have hw0 := hw
  obtain ⟨rfl, hR, hk0, hk1⟩ := hw
  have hM1 := hM.frR hR
  have hm1 := hM1.o
  refine Z.istore ok dL_law_955 (by decide) ?_
  refine Z.aload_n ok dL_law_957 rfl (by first | exact isRf.r _ | exact isRf.n | exact isRf.v _ | assumption) ?_
  refine Z.aload_n ok dL_law_958 rfl (by first | exact isRf.r _ | exact isRf.n | exact isRf.v _ | assumption) ?_
  refine Z.iload ok dL_law_959 rfl ?_
  refine Z.iconst_1 ok dL_law_961 ?_
  refine Z.iadd ok dL_law_962 ?_
  refine Z.scr (K := 1) ok hs (by omega) hL rfl dL_law_963 ?_
  refine Z.callV (ci := 1) (q := (RX2, TX2, 15)) (C := RX2) ok (isQuietM_ct hM1 hI.1 (xs (6 * j + 1))) hm1 rfl rfl q1613 q1614 (Or.inl q1615) q22 q1616 nk_X2_isQuiet rfl (by decide) (by first | exact Nat.le_of_ble_eq_true rfl | simp [Value.category, cat_rf]) (Nat.le_refl _) (Nat.le_refl _) dL_law_964 rfl ZX.no (fun v w2 hr => ?_)
  obtain ⟨rfl, hM2, hF2⟩ := hr
  have hm2 := hM2.o
  refine Z.istore ok dL_law_967 (by decide) ?_
  refine Z.aload_n ok dL_law_969 rfl (by first | exact isRf.r _ | exact isRf.n | exact isRf.v _ | assumption) ?_
  refine Z.callV (ci := 1) (q := (RX2, TX2, 15)) (C := RX2) ok (thrown_ct hM2) hm2 rfl rfl q1500 q1501 (Or.inl q1502) q22 q1503 nk_X2_thrown rfl (by decide) (by first | exact Nat.le_of_ble_eq_true rfl | simp [Value.category, cat_rf]) (Nat.le_refl _) (Nat.le_refl _) dL_law_970 rfl ZX.no (fun v w3 hr => ?_)
  obtain ⟨rfl, hM3, hF3⟩ := hr
  refine Z.iload ok dL_law_973 rfl ?_
  refine Z.icmp_eq (tgt := 980) ok dL_law_975 (by decide) (fun _ => ?_) (fun hc => absurd rfl hc)
  refine Z.iload ok dL_law_980 rfl ?_
  have hLI := LI.step (S' := S) h0 hw0 (hF2.tr hF3) (by rw [ite_self]; exact hM3) (fun _ => hI.le (Nat.le_succ j))
  by_cases hk : qK S (xs (6 * j + 1)) = 0
  · refine Z.if_ne (tgt := 1004) ok dL_law_982 (by decide) (fun hc => absurd hk hc) (fun _ => ?_)
    obtain ⟨-, f1, ho1, hf1⟩ := hk0 hk
    have ho3 := (hF2.tr hF3) _ _ _ ho1 (by unfold isM; decide)
    refine Z.aload_n ok dL_law_985 rfl (by first | exact isRf.r _ | exact isRf.n | exact isRf.v _ | assumption) ?_
    refine Z.iconst_0 ok dL_law_986 ?_
    refine Z.lald ok ho3 (vp_in_nI (N := 1) (show 0 < 1 by decide) (by decide)) dL_law_987 ?_
    rw [show f1 (0 : Int32).toNatClampNeg = _ from hf1]
    rw [qK_0 hk, Bool.true_and]
    refine Z.iload ok dL_law_988 rfl ?_
    cases hbb : decide (S 1 0 < S 7 (qN (xs (6 * j + 1)))) with
    | true =>
      refine Z.if_eq (tgt := 997) ok dL_law_990 (by decide) (fun hc => absurd hc (by decide)) (fun _ => ?_)
      refine Z.lconst (v := 1) ok dL_law_993 (by decide) ?_
      refine Z.goto (tgt := 998) ok dL_law_994 (by decide) ?_
      refine Z.lcmpE ok dL_law_998 ?_
      refine Z.if_eq (tgt := 1004) ok dL_law_999 (by decide) (fun _ => ?_) (fun hc => absurd rfl hc)
      refine Z.goto (tgt := 1119) ok dL_law_1004 (by decide) ?_
      exact kont w3 _ _ _ _ hLI
    | false =>
      refine Z.if_eq (tgt := 997) ok dL_law_990 (by decide) (fun _ => ?_) (fun hc => absurd (by decide) hc)
      refine Z.lconst (v := 0) ok dL_law_997 (by decide) ?_
      refine Z.lcmpE ok dL_law_998 ?_
      refine Z.if_eq (tgt := 1004) ok dL_law_999 (by decide) (fun _ => ?_) (fun hc => absurd rfl hc)
      refine Z.goto (tgt := 1119) ok dL_law_1004 (by decide) ?_
      exact kont w3 _ _ _ _ hLI
  · refine Z.if_ne (tgt := 1004) ok dL_law_982 (by decide) (fun _ => ?_) (fun hc => absurd hc hk)
    refine Z.goto (tgt := 1119) ok dL_law_1004 (by decide) ?_
    exact kont w3 _ _ _ _ hLI
theorem law_c17 {x : Cx} {b Ls a m ou j f : Nat} {xs : Nat → Int32} {ad : Nat → Nat} {th : Int32} {l5 l6 : Option Value} {R1 R2 : Nat} (ok : OK g x "AlertIndexLaw" cL_law 7 13 ret) (hs : SX g x b Ls xs) (h : LI g w a m ou ad S j th) (hj : 6 * j + 6 ≤ Ls) (hL : Ls ≤ 384) (kont : ∀ (w : Wd) (S : St) (th : Int32) (l5 l6 : Option Value), LI g w a m ou ad S (j + 1) th → Z g x 7 1119 [some (.ref b), some (.ref a), some (.ref m), some (.ref ou), some (.int (nI (6 * j))), l5, l6] [] w R1 R2) : Z g x 7 1007 [some (.ref b), some (.ref a), some (.ref m), some (.ref ou), some (.int (nI (6 * j))), l5, l6] [] w (R1 + (200 * j + 400)) (R2 + (2000 * j + 4000)) := by
  have h0 := h
  obtain ⟨hFS, hI, hM, fo, ho⟩ := h
  refine Z.aload_n ok dL_law_1007 rfl (by first | exact isRf.r _ | exact isRf.n | exact isRf.v _ | assumption) ?_
  refine Z.aload_n ok dL_law_1008 rfl (by first | exact isRf.r _ | exact isRf.n | exact isRf.v _ | assumption) ?_
  refine Z.iload ok dL_law_1009 rfl ?_
  refine Z.iconst_1 ok dL_law_1011 ?_
  refine Z.iadd ok dL_law_1012 ?_
  refine Z.scr (K := 1) ok hs (by omega) hL rfl dL_law_1013 ?_
  refine Z.aload_n ok dL_law_1014 rfl (by first | exact isRf.r _ | exact isRf.n | exact isRf.v _ | assumption) ?_
  refine Z.callSW (kc' := R1) (ks' := R2) ok (lalerts_ct hFS hI ho (xs (6 * j + 1))) q1433 q1434 q15 q1435 nk_X0_alerts rfl (by decide) (by first | exact Nat.le_of_ble_eq_true rfl | simp [Value.category, cat_rf]) (by omega) (by omega) dL_law_1015 rfl ZX.no (fun v w1 hw => ?_)
  have hw0 := hw
  obtain ⟨rfl, hR, hk0, hk1⟩ := hw
  have hM1 := hM.frR hR
  have hm1 := hM1.o
  refine Z.istore ok dL_law_1018 (by decide) ?_
  refine Z.aload_n ok dL_law_1020 rfl (by first | exact isRf.r _ | exact isRf.n | exact isRf.v _ | assumption) ?_
  refine Z.aload_n ok dL_law_1021 rfl (by first | exact isRf.r _ | exact isRf.n | exact isRf.v _ | assumption) ?_
  refine Z.iload ok dL_law_1022 rfl ?_
  refine Z.iconst_1 ok dL_law_1024 ?_
  refine Z.iadd ok dL_law_1025 ?_
  refine Z.scr (K := 1) ok hs (by omega) hL rfl dL_law_1026 ?_
  refine Z.callV (ci := 1) (q := (RX2, TX2, 15)) (C := RX2) ok (alertsM_ct hM1 hI.1 (xs (6 * j + 1))) hm1 rfl rfl q1617 q1618 (Or.inl q1619) q22 q1620 nk_X2_alerts rfl (by decide) (by first | exact Nat.le_of_ble_eq_true rfl | simp [Value.category, cat_rf]) (Nat.le_refl _) (Nat.le_refl _) dL_law_1027 rfl ZX.no (fun v w2 hr => ?_)
  obtain ⟨rfl, hM2, hF2⟩ := hr
  have hm2 := hM2.o
  refine Z.istore ok dL_law_1030 (by decide) ?_
  refine Z.aload_n ok dL_law_1032 rfl (by first | exact isRf.r _ | exact isRf.n | exact isRf.v _ | assumption) ?_
  refine Z.callV (ci := 1) (q := (RX2, TX2, 15)) (C := RX2) ok (thrown_ct hM2) hm2 rfl rfl q1500 q1501 (Or.inl q1502) q22 q1503 nk_X2_thrown rfl (by decide) (by first | exact Nat.le_of_ble_eq_true rfl | simp [Value.category, cat_rf]) (Nat.le_refl _) (Nat.le_refl _) dL_law_1033 rfl ZX.no (fun v w3 hr => ?_)
  obtain ⟨rfl, hM3, hF3⟩ := hr
  refine Z.iload ok dL_law_1036 rfl ?_
  refine Z.icmp_eq (tgt := 1043) ok dL_law_1038 (by decide) (fun _ => ?_) (fun hc => absurd rfl hc)
  refine Z.iload ok dL_law_1043 rfl ?_
  have hLI := LI.step (S' := S) h0 hw0 (hF2.tr hF3) (by rw [ite_self]; exact hM3) (fun _ => hI.le (Nat.le_succ j))
  by_cases hk : qK S (xs (6 * j + 1)) = 0
  · refine Z.if_ne (tgt := 1060) ok dL_law_1045 (by decide) (fun hc => absurd hk hc) (fun _ => ?_)
    obtain ⟨-, f1, ho1, hf1⟩ := hk0 hk
    have ho3 := (hF2.tr hF3) _ _ _ ho1 (by unfold isM; decide)
    refine Z.aload_n ok dL_law_1048 rfl (by first | exact isRf.r _ | exact isRf.n | exact isRf.v _ | assumption) ?_
    refine Z.iconst_0 ok dL_law_1049 ?_
    refine Z.lald ok ho3 (vp_in_nI (N := 1) (show 0 < 1 by decide) (by decide)) dL_law_1050 ?_
    rw [show f1 (0 : Int32).toNatClampNeg = _ from hf1]
    rw [if_pos hk]
    refine Z.iload ok dL_law_1051 rfl ?_
    refine Z.i2l ok dL_law_1053 rfl ?_
    refine Z.lcmpE ok dL_law_1054 ?_
    refine Z.if_eq (tgt := 1060) ok dL_law_1055 (by decide) (fun _ => ?_) (fun hc => absurd rfl hc)
    refine Z.goto (tgt := 1119) ok dL_law_1060 (by decide) ?_
    exact kont w3 _ _ _ _ hLI
  · refine Z.if_ne (tgt := 1060) ok dL_law_1045 (by decide) (fun _ => ?_) (fun hc => absurd hc hk)
    refine Z.goto (tgt := 1119) ok dL_law_1060 (by decide) ?_
    exact kont w3 _ _ _ _ hLI
theorem law_c18 {x : Cx} {b Ls a m ou j f : Nat} {xs : Nat → Int32} {ad : Nat → Nat} {th : Int32} {l5 l6 : Option Value} {R1 R2 : Nat} (ok : OK g x "AlertIndexLaw" cL_law 7 13 ret) (hs : SX g x b Ls xs) (h : LI g w a m ou ad S j th) (hj : 6 * j + 6 ≤ Ls) (hL : Ls ≤ 384) (kont : ∀ (w : Wd) (S : St) (th : Int32) (l5 l6 : Option Value), LI g w a m ou ad S (j + 1) th → Z g x 7 1119 [some (.ref b), some (.ref a), some (.ref m), some (.ref ou), some (.int (nI (6 * j))), l5, l6] [] w R1 R2) : Z g x 7 1063 [some (.ref b), some (.ref a), some (.ref m), some (.ref ou), some (.int (nI (6 * j))), l5, l6] [] w (R1 + (200 * j + 400)) (R2 + (2000 * j + 4000)) := by
  have h0 := h
  obtain ⟨hFS, hI, hM, fo, ho⟩ := h
  refine Z.aload_n ok dL_law_1063 rfl (by first | exact isRf.r _ | exact isRf.n | exact isRf.v _ | assumption) ?_
  refine Z.aload_n ok dL_law_1064 rfl (by first | exact isRf.r _ | exact isRf.n | exact isRf.v _ | assumption) ?_
  refine Z.iload ok dL_law_1065 rfl ?_
  refine Z.iconst_1 ok dL_law_1067 ?_
  refine Z.iadd ok dL_law_1068 ?_
  refine Z.scr (K := 1) ok hs (by omega) hL rfl dL_law_1069 ?_
  refine Z.aload_n ok dL_law_1070 rfl (by first | exact isRf.r _ | exact isRf.n | exact isRf.v _ | assumption) ?_
  refine Z.callSW (kc' := R1) (ks' := R2) ok (lbatch_ct hFS hI ho (xs (6 * j + 1))) q1440 q1441 q15 q1442 nk_X0_batch rfl (by decide) (by first | exact Nat.le_of_ble_eq_true rfl | simp [Value.category, cat_rf]) (by omega) (by omega) dL_law_1071 rfl ZX.no (fun v w1 hw => ?_)
  have hw0 := hw
  obtain ⟨rfl, hR, hk0, hk1⟩ := hw
  have hM1 := hM.frR hR
  have hm1 := hM1.o
  refine Z.istore ok dL_law_1074 (by decide) ?_
  refine Z.aload_n ok dL_law_1076 rfl (by first | exact isRf.r _ | exact isRf.n | exact isRf.v _ | assumption) ?_
  refine Z.aload_n ok dL_law_1077 rfl (by first | exact isRf.r _ | exact isRf.n | exact isRf.v _ | assumption) ?_
  refine Z.iload ok dL_law_1078 rfl ?_
  refine Z.iconst_1 ok dL_law_1080 ?_
  refine Z.iadd ok dL_law_1081 ?_
  refine Z.scr (K := 1) ok hs (by omega) hL rfl dL_law_1082 ?_
  refine Z.callV (ci := 1) (q := (RX2, TX2, 15)) (C := RX2) ok (batchM_ct hM1 hI.1 (xs (6 * j + 1))) hm1 rfl rfl q1621 q1622 (Or.inl q1623) q22 q1624 nk_X2_batch rfl (by decide) (by first | exact Nat.le_of_ble_eq_true rfl | simp [Value.category, cat_rf]) (Nat.le_refl _) (Nat.le_refl _) dL_law_1083 rfl ZX.no (fun v w2 hr => ?_)
  obtain ⟨rfl, hM2, hF2⟩ := hr
  have hm2 := hM2.o
  refine Z.istore ok dL_law_1086 (by decide) ?_
  refine Z.aload_n ok dL_law_1088 rfl (by first | exact isRf.r _ | exact isRf.n | exact isRf.v _ | assumption) ?_
  refine Z.callV (ci := 1) (q := (RX2, TX2, 15)) (C := RX2) ok (thrown_ct hM2) hm2 rfl rfl q1500 q1501 (Or.inl q1502) q22 q1503 nk_X2_thrown rfl (by decide) (by first | exact Nat.le_of_ble_eq_true rfl | simp [Value.category, cat_rf]) (Nat.le_refl _) (Nat.le_refl _) dL_law_1089 rfl ZX.no (fun v w3 hr => ?_)
  obtain ⟨rfl, hM3, hF3⟩ := hr
  refine Z.iload ok dL_law_1092 rfl ?_
  refine Z.icmp_eq (tgt := 1099) ok dL_law_1094 (by decide) (fun _ => ?_) (fun hc => absurd rfl hc)
  refine Z.iload ok dL_law_1099 rfl ?_
  have hLI := LI.step (S' := S) h0 hw0 (hF2.tr hF3) (by rw [ite_self]; exact hM3) (fun _ => hI.le (Nat.le_succ j))
  by_cases hk : qK S (xs (6 * j + 1)) = 0
  · refine Z.if_ne (tgt := 1116) ok dL_law_1101 (by decide) (fun hc => absurd hk hc) (fun _ => ?_)
    obtain ⟨-, f1, ho1, hf1⟩ := hk0 hk
    have ho3 := (hF2.tr hF3) _ _ _ ho1 (by unfold isM; decide)
    refine Z.aload_n ok dL_law_1104 rfl (by first | exact isRf.r _ | exact isRf.n | exact isRf.v _ | assumption) ?_
    refine Z.iconst_0 ok dL_law_1105 ?_
    refine Z.lald ok ho3 (vp_in_nI (N := 1) (show 0 < 1 by decide) (by decide)) dL_law_1106 ?_
    rw [show f1 (0 : Int32).toNatClampNeg = _ from hf1]
    rw [if_pos hk]
    refine Z.iload ok dL_law_1107 rfl ?_
    refine Z.i2l ok dL_law_1109 rfl ?_
    refine Z.lcmpE ok dL_law_1110 ?_
    refine Z.if_eq (tgt := 1116) ok dL_law_1111 (by decide) (fun _ => ?_) (fun hc => absurd rfl hc)
    refine Z.goto (tgt := 1119) ok dL_law_1116 (by decide) ?_
    exact kont w3 _ _ _ _ hLI
  · refine Z.if_ne (tgt := 1116) ok dL_law_1101 (by decide) (fun _ => ?_) (fun hc => absurd hc hk)
    refine Z.goto (tgt := 1119) ok dL_law_1116 (by decide) ?_
    exact kont w3 _ _ _ _ hLI
end LAWL
