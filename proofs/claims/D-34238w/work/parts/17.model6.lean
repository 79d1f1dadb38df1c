/-! ===== THE REFERENCE: test, withSize, pieces, the constructor ===== -/
section MODEL6
variable {g : Gx} {w : Wd} {m : Nat} {ad : Nat → Nat} {S : St} {th : Int32} {x : Cx}
abbrev lastN (S : St) (q : Nat) : Nat := 3 * q + np S q - 1
def testK (S : St) (q nm lo hi : Int32) : Int32 := if (isQ S q && inB nm 0 5) = true then (if rngB lo hi = true then (if 0 < np S (qN q) ∧ nt S (lastN S (qN q)) < 4 then 0 else 3) else 2) else 1
theorem testK_0 {S : St} {q nm lo hi : Int32} (h : testK S q nm lo hi = 0) : isQ S q = true ∧ inB nm 0 5 = true ∧ rngB lo hi = true ∧ 0 < np S (qN q) ∧ nt S (lastN S (qN q)) < 4 := by
  unfold testK at h
  split at h
  · rename_i h1
    rw [Bool.and_eq_true] at h1
    split at h
    · split at h
      · rename_i h2 h3
        exact ⟨h1.1, h1.2, h2, h3.1, h3.2⟩
      · exact absurd h (by decide)
    · exact absurd h (by decide)
  · exact absurd h (by decide)
/-- the state behind a test laid down, for question i -/
def testS (S : St) (i : Nat) (nm lo hi b : Int32) : St :=
  up2 (up2 (up2 (up2 (up2 S 11 (4 * lastN S i + nt S (lastN S i)) nm) 12 (4 * lastN S i + nt S (lastN S i)) lo) 13 (4 * lastN S i + nt S (lastN S i)) hi) 14 (4 * lastN S i + nt S (lastN S i)) b) 10 (lastN S i) (S 10 (lastN S i) + 1)
theorem testM_ct (hM : MR g w m ad S th) (hI : InvA S) (q nm lo hi b : Int32) (hb : b = 0 ∨ b = 1) : Ct g yX2_test cX2_test 10 (some .int) 4 0 0 [.ref m, .int q, .int nm, .int lo, .int hi, .int b] w (PM g w m ad (rI (if testK S q nm lo hi = 0 then S 10 (lastN S (qN q)) + 1 else 0)) (if testK S q nm lo hi = 0 then testS S (qN q) nm lo hi b else S) (testK S q nm lo hi)) noX := by
  refine Ct.of RX2 "test" ⟨rfl, rfl⟩ (by decide +kernel) (by simp [Value.category]) (Nat.le_of_ble_eq_true rfl) (fun x ok hQ hN => ?_)
  show Z g x 10 0 [some (.ref m), some (.int q), some (.int nm), some (.int lo), some (.int hi), some (.int b), none, none, none, none] [] w 0 0
  have hm := hM.o
  have h5 := hM.a5
  have h10 := hM.a10
  have key : ∀ k l7, k = testK S q nm lo hi → (k = 0 → l7 = nI (lastN S (qN q))) → Z g x 10 110 [some (.ref m), some (.int q), some (.int nm), some (.int lo), some (.int hi), some (.int b), none, some (.int l7), none, none] [.int k, .ref m] w 0 0 := by
    intro k l7 hk hl7
    refine Z.callV (ci := 1) (q := (RX2, TX2, 15)) (C := RX2) ok (holds_ct hM k) (by first | assumption | exact ws_s | (rw [ws_n (by assumption)]; assumption)) rfl rfl q1508 q1510 (Or.inl qs7) q22 q1511 nk_X2_holds rfl (by decide) (by first | exact Nat.le_of_ble_eq_true rfl | simp [Value.category, cat_rf]) (Nat.le_refl _) (Nat.le_refl _) dX2_test_110 rfl ZX.no (fun v w1 hp => ?_)
    obtain ⟨rfl, hM1, hF1⟩ := hp
    have hm1 := hM1.o
    refine Z.if_ne (tgt := 118) ok dX2_test_113 (by decide) (fun hc => ?_) (fun hc => ?_)
    · have h0 : k = 0 := of_decide_eq_true (bI_n0.mp hc)
      have hl := hl7 h0
      subst h0
      subst hl
      obtain ⟨c1, c2, c3, c4, c5⟩ := testK_0 hk.symm
      obtain ⟨i, hi', hi20, rfl, e, hd⟩ := isQ_le hI c1
      rw [e] at c4 c5 ⊢
      obtain ⟨e5, l5⟩ := hI.2.1 i hi20
      have hln : lastN S i = 3 * i + np S i - 1 := rfl
      have hl60 : lastN S i < 60 := by omega
      obtain ⟨e10, l10⟩ := hI.2.2.1 _ hl60
      have h10 := hM1.a10
      refine Z.iconst_4 ok dX2_test_118 ?_
      refine Z.iload ok dX2_test_119 rfl ?_
      refine Z.imul ok dX2_test_121 ?_
      refine Z.aload_n ok dX2_test_122 rfl (by first | exact isRf.r _ | exact isRf.n | exact isRf.v _ | assumption) ?_
      refine Z.get (ci := 1) (C := RX2) (T := TX2) (N := 15) ok (by first | assumption | exact ws_s | (rw [ws_n (by assumption)]; assumption)) rfl in_X2 10 (by decide) q1463 (Or.inl rfl) (by rfl) dX2_test_123 ?_
      refine Z.iload ok dX2_test_126 rfl ?_
      refine Z.ialdN ok h10 hl60 (by decide) dX2_test_128 ?_
      rw [e10]
      refine Z.iadd ok dX2_test_129 ?_
      refine Z.istore ok dX2_test_130 (by decide) ?_
      simp only [m3, m4, nI_add, nI_1, i1, List.set_cons_zero, List.set_cons_succ]
      have hk240 : 4 * lastN S i + nt S (lastN S i) < 240 := by omega
      have h11 := hM1.a11
      refine Z.aload_n ok dX2_test_132 rfl (by first | exact isRf.r _ | exact isRf.n | exact isRf.v _ | assumption) ?_
      refine Z.get (ci := 1) (C := RX2) (T := TX2) (N := 15) ok (by first | assumption | exact ws_s | (rw [ws_n (by assumption)]; assumption)) rfl in_X2 11 (by decide) q1464 (Or.inl rfl) (by rfl) dX2_test_133 ?_
      refine Z.iload ok dX2_test_136 rfl ?_
      refine Z.iload_n ok dX2_test_138 rfl ?_
      refine Z.iastN ok h11 (by decide) hk240 (by decide) dX2_test_139 ?_
      obtain ⟨hM2, hF2⟩ := hM1.st 11 (4 * lastN S i + nt S (lastN S i)) nm (by decide) (by decide)
      generalize hw2 : wset w1 (ad 11) (eI g 240 (upd (S 11) (4 * lastN S i + nt S (lastN S i)) nm)) 31 = w2
      have hM2 : MR g w2 m ad (up2 S 11 (4 * lastN S i + nt S (lastN S i)) nm) 0 := by rw [← hw2]; exact hM2
      have hF2 : FrM w1 w2 := by rw [← hw2]; exact hF2
      have hm2 := hM2.o
      have h12 := hM2.a12
      refine Z.aload_n ok dX2_test_140 rfl (by first | exact isRf.r _ | exact isRf.n | exact isRf.v _ | assumption) ?_
      refine Z.get (ci := 1) (C := RX2) (T := TX2) (N := 15) ok (by first | assumption | exact ws_s | (rw [ws_n (by assumption)]; assumption)) rfl in_X2 12 (by decide) q1465 (Or.inl rfl) (by rfl) dX2_test_141 ?_
      refine Z.iload ok dX2_test_144 rfl ?_
      refine Z.iload_n ok dX2_test_146 rfl ?_
      refine Z.iastN ok h12 (by decide) hk240 (by decide) dX2_test_147 ?_
      obtain ⟨hM3, hF3⟩ := hM2.st 12 (4 * lastN S i + nt S (lastN S i)) lo (by decide) (by decide)
      generalize hw3 : wset w2 (ad 12) (eI g 240 (upd (up2 S 11 (4 * lastN S i + nt S (lastN S i)) nm 12) (4 * lastN S i + nt S (lastN S i)) lo)) 32 = w3
      have hM3 : MR g w3 m ad (up2 (up2 S 11 (4 * lastN S i + nt S (lastN S i)) nm) 12 (4 * lastN S i + nt S (lastN S i)) lo) 0 := by rw [← hw3]; exact hM3
      have hF3 : FrM w2 w3 := by rw [← hw3]; exact hF3
      have hm3 := hM3.o
      have h13 := hM3.a13
      refine Z.aload_n ok dX2_test_148 rfl (by first | exact isRf.r _ | exact isRf.n | exact isRf.v _ | assumption) ?_
      refine Z.get (ci := 1) (C := RX2) (T := TX2) (N := 15) ok (by first | assumption | exact ws_s | (rw [ws_n (by assumption)]; assumption)) rfl in_X2 13 (by decide) q1466 (Or.inl rfl) (by rfl) dX2_test_149 ?_
      refine Z.iload ok dX2_test_152 rfl ?_
      refine Z.iload ok dX2_test_154 rfl ?_
      refine Z.iastN ok h13 (by decide) hk240 (by decide) dX2_test_156 ?_
      obtain ⟨hM4, hF4⟩ := hM3.st 13 (4 * lastN S i + nt S (lastN S i)) hi (by decide) (by decide)
      generalize hw4 : wset w3 (ad 13) (eI g 240 (upd (up2 (up2 S 11 (4 * lastN S i + nt S (lastN S i)) nm) 12 (4 * lastN S i + nt S (lastN S i)) lo 13) (4 * lastN S i + nt S (lastN S i)) hi)) 33 = w4
      have hM4 : MR g w4 m ad (up2 (up2 (up2 S 11 (4 * lastN S i + nt S (lastN S i)) nm) 12 (4 * lastN S i + nt S (lastN S i)) lo) 13 (4 * lastN S i + nt S (lastN S i)) hi) 0 := by rw [← hw4]; exact hM4
      have hF4 : FrM w3 w4 := by rw [← hw4]; exact hF4
      have hm4 := hM4.o
      have h14 := hM4.a14
      refine Z.aload_n ok dX2_test_157 rfl (by first | exact isRf.r _ | exact isRf.n | exact isRf.v _ | assumption) ?_
      refine Z.get (ci := 1) (C := RX2) (T := TX2) (N := 15) ok (by first | assumption | exact ws_s | (rw [ws_n (by assumption)]; assumption)) rfl in_X2 14 (by decide) q1467 (Or.inl rfl) (by rfl) dX2_test_158 ?_
      refine Z.iload ok dX2_test_161 rfl ?_
      refine Z.iload ok dX2_test_163 rfl ?_
      refine Z.zastN ok h14 (by decide) hb hk240 (by decide) dX2_test_165 ?_
      obtain ⟨hM5, hF5⟩ := hM4.st 14 (4 * lastN S i + nt S (lastN S i)) b (by decide) (by decide)
      generalize hw5 : wset w4 (ad 14) (eZ g 240 (upd (up2 (up2 (up2 S 11 (4 * lastN S i + nt S (lastN S i)) nm) 12 (4 * lastN S i + nt S (lastN S i)) lo) 13 (4 * lastN S i + nt S (lastN S i)) hi 14) (4 * lastN S i + nt S (lastN S i)) b)) 34 = w5
      have hM5 : MR g w5 m ad (up2 (up2 (up2 (up2 S 11 (4 * lastN S i + nt S (lastN S i)) nm) 12 (4 * lastN S i + nt S (lastN S i)) lo) 13 (4 * lastN S i + nt S (lastN S i)) hi) 14 (4 * lastN S i + nt S (lastN S i)) b) 0 := by rw [← hw5]; exact hM5
      have hF5 : FrM w4 w5 := by rw [← hw5]; exact hF5
      have hr : (up2 (up2 (up2 (up2 S 11 (4 * lastN S i + nt S (lastN S i)) nm) 12 (4 * lastN S i + nt S (lastN S i)) lo) 13 (4 * lastN S i + nt S (lastN S i)) hi) 14 (4 * lastN S i + nt S (lastN S i)) b) 10 = S 10 := by
        rw [up2_rowk (by decide), up2_rowk (by decide), up2_rowk (by decide), up2_rowk (by decide)]
      have hm5 := hM5.o
      have h10 := hM5.a10
      refine Z.aload_n ok dX2_test_166 rfl (by first | exact isRf.r _ | exact isRf.n | exact isRf.v _ | assumption) ?_
      refine Z.get (ci := 1) (C := RX2) (T := TX2) (N := 15) ok (by first | assumption | exact ws_s | (rw [ws_n (by assumption)]; assumption)) rfl in_X2 10 (by decide) q1463 (Or.inl rfl) (by rfl) dX2_test_167 ?_
      refine Z.iload ok dX2_test_170 rfl ?_
      refine Z.dup2 ok dX2_test_172 (by first | rfl | exact cat_rf _) (by first | rfl | exact cat_rf _) ?_
      refine Z.ialdN ok h10 hl60 (by decide) dX2_test_173 ?_
      refine Z.iconst_1 ok dX2_test_174 ?_
      refine Z.iadd ok dX2_test_175 ?_
      refine Z.iastN ok h10 (by decide) hl60 (by decide) dX2_test_176 ?_
      obtain ⟨hM6, hF6⟩ := hM5.st 10 (lastN S i) ((up2 (up2 (up2 (up2 S 11 (4 * lastN S i + nt S (lastN S i)) nm) 12 (4 * lastN S i + nt S (lastN S i)) lo) 13 (4 * lastN S i + nt S (lastN S i)) hi) 14 (4 * lastN S i + nt S (lastN S i)) b) 10 (lastN S i) + 1) (by decide) (by decide)
      generalize hw6 : wset w5 (ad 10) _ 30 = w6
      have hM6 : MR g w6 m ad (testS S i nm lo hi b) 0 := by rw [← hw6]; rw [hr] at hM6 ⊢; exact hM6
      have hF6 : FrM w5 w6 := by rw [← hw6]; exact hF6
      have hm6 := hM6.o
      have h10 := hM6.a10
      refine Z.aload_n ok dX2_test_177 rfl (by first | exact isRf.r _ | exact isRf.n | exact isRf.v _ | assumption) ?_
      refine Z.get (ci := 1) (C := RX2) (T := TX2) (N := 15) ok (by first | assumption | exact ws_s | (rw [ws_n (by assumption)]; assumption)) rfl in_X2 10 (by decide) q1463 (Or.inl rfl) (by rfl) dX2_test_178 ?_
      refine Z.iload ok dX2_test_181 rfl ?_
      refine Z.ialdN ok h10 hl60 (by decide) dX2_test_183 ?_
      refine Z.iret ok hQ rfl dX2_test_184 ?_
      exact ⟨by rw [e, if_pos hk.symm, testS, up2_s], by rw [e, if_pos hk.symm, ← hk]; exact hM6, hF1.tr (hF2.tr (hF3.tr (hF4.tr (hF5.tr hF6))))⟩
    · have h0 : ¬ k = 0 := of_decide_eq_false (bI_0.mp hc)
      refine Z.iconst_0 ok dX2_test_116 ?_
      refine Z.iret ok hQ rfl dX2_test_117 ?_
      rw [← hk, if_neg h0, if_neg h0]
      exact ⟨rfl, hM1, hF1⟩
  have no : (isQ S q && inB nm 0 5) = false → Z g x 10 20 [some (.ref m), some (.int q), some (.int nm), some (.int lo), some (.int hi), some (.int b), none, none, none, none] [.int 0] w 0 0 := by
    intro hno
    refine Z.istore ok dX2_test_20 (by decide) ?_
    refine Z.iload ok dX2_test_22 rfl ?_
    refine Z.if_eq (tgt := 42) ok dX2_test_24 (by decide) (fun _ => ?_) (fun hc => absurd rfl hc)
    refine Z.iconst_0 ok dX2_test_42 ?_
    refine Z.istore ok dX2_test_43 (by decide) ?_
    refine Z.iload ok dX2_test_45 rfl ?_
    refine Z.if_eq (tgt := 74) ok dX2_test_47 (by decide) (fun _ => ?_) (fun hc => absurd rfl hc)
    refine Z.iconst_0 ok dX2_test_74 ?_
    refine Z.istore ok dX2_test_75 (by decide) ?_
    refine Z.aload_n ok dX2_test_77 rfl (by first | exact isRf.r _ | exact isRf.n | exact isRf.v _ | assumption) ?_
    refine Z.iload ok dX2_test_78 rfl ?_
    refine Z.if_ne (tgt := 87) ok dX2_test_80 (by decide) (fun hc => absurd (by decide) hc) (fun _ => ?_)
    refine Z.iconst_1 ok dX2_test_83 ?_
    refine Z.goto (tgt := 110) ok dX2_test_84 (by decide) ?_
    refine Z.fg (by simp [fgt]) (key 1 0 ?_ (fun h => absurd h (by decide)))
    rw [testK, hno]
    rfl
  refine Z.aload_n ok dX2_test_0 rfl (by first | exact isRf.r _ | exact isRf.n | exact isRf.v _ | assumption) ?_
  refine Z.iload_n ok dX2_test_1 rfl ?_
  refine Z.callV (ci := 1) (q := (RX2, TX2, 15)) (C := RX2) ok (isQuestion_ct hM hI q) (by first | assumption | exact ws_s | (rw [ws_n (by assumption)]; assumption)) rfl rfl q1516 q1518 (Or.inl qs8) q22 q1519 nk_X2_isQuestion rfl (by decide) (by first | exact Nat.le_of_ble_eq_true rfl | simp [Value.category, cat_rf]) (Nat.le_refl _) (Nat.le_refl _) dX2_test_2 rfl ZX.no (fun v w1 hp => ?_)
  obtain ⟨rfl, rfl⟩ := hp
  refine Z.if_eq (tgt := 19) ok dX2_test_5 (by decide) (fun hc => ?_) (fun hc => ?_)
  · refine Z.iconst_0 ok dX2_test_19 ?_
    exact no (by rw [bI_0.mp hc]; rfl)
  · have hq := bI_n0.mp hc
    refine Z.iload_n ok dX2_test_8 rfl ?_
    refine Z.callS ok (isName_ct nm) q1527 q1528 q22 q1529 nk_X2_isName rfl (by decide) (by first | exact Nat.le_of_ble_eq_true rfl | simp [Value.category, cat_rf]) (Nat.le_refl _) (Nat.le_refl _) dX2_test_9 rfl ZX.no (fun v w1 hp => ?_)
    obtain ⟨rfl, rfl⟩ := hp
    refine Z.if_eq (tgt := 19) ok dX2_test_12 (by decide) (fun hd => ?_) (fun hd => ?_)
    · refine Z.iconst_0 ok dX2_test_19 ?_
      exact no (by rw [bI_0.mp hd, Bool.and_false])
    · have hnm := bI_n0.mp hd
      obtain ⟨i, hi', hi20, rfl, e, hd4⟩ := isQ_le hI hq
      obtain ⟨e5, l5⟩ := hI.2.1 i hi20
      have hln : lastN S i = 3 * i + np S i - 1 := rfl
      have hK : testK S (nI i) nm lo hi = (if rngB lo hi = true then (if 0 < np S i ∧ nt S (lastN S i) < 4 then 0 else 3) else 2) := by rw [testK, hq, hnm, e]; rfl
      rw [hK, e] at key
      refine Z.iconst_1 ok dX2_test_15 ?_
      refine Z.goto (tgt := 20) ok dX2_test_16 (by decide) ?_
      refine Z.istore ok dX2_test_20 (by decide) ?_
      refine Z.iload ok dX2_test_22 rfl ?_
      refine Z.if_eq (tgt := 42) ok dX2_test_24 (by decide) (fun hc => absurd hc (by decide)) (fun _ => ?_)
      refine Z.iconst_3 ok dX2_test_27 ?_
      refine Z.iload_n ok dX2_test_28 rfl ?_
      refine Z.imul ok dX2_test_29 ?_
      refine Z.aload_n ok dX2_test_30 rfl (by first | exact isRf.r _ | exact isRf.n | exact isRf.v _ | assumption) ?_
      refine Z.get (ci := 1) (C := RX2) (T := TX2) (N := 15) ok (by first | assumption | exact ws_s | (rw [ws_n (by assumption)]; assumption)) rfl in_X2 5 (by decide) q1458 (Or.inl rfl) (by rfl) dX2_test_31 ?_
      refine Z.iload_n ok dX2_test_34 rfl ?_
      refine Z.ialdN ok h5 hi20 (by decide) dX2_test_35 ?_
      refine Z.iadd ok dX2_test_36 ?_
      refine Z.iconst_1 ok dX2_test_37 ?_
      refine Z.isub ok dX2_test_38 ?_
      refine Z.goto (tgt := 43) ok dX2_test_39 (by decide) ?_
      refine Z.istore ok dX2_test_43 (by decide) ?_
      refine Z.iload ok dX2_test_45 rfl ?_
      refine Z.if_eq (tgt := 74) ok dX2_test_47 (by decide) (fun hc => absurd hc (by decide)) (fun _ => ?_)
      refine Z.aload_n ok dX2_test_50 rfl (by first | exact isRf.r _ | exact isRf.n | exact isRf.v _ | assumption) ?_
      refine Z.get (ci := 1) (C := RX2) (T := TX2) (N := 15) ok (by first | assumption | exact ws_s | (rw [ws_n (by assumption)]; assumption)) rfl in_X2 5 (by decide) q1458 (Or.inl rfl) (by rfl) dX2_test_51 ?_
      refine Z.iload_n ok dX2_test_54 rfl ?_
      refine Z.ialdN ok h5 hi20 (by decide) dX2_test_55 ?_
      have last : ∀ (b8 : Bool) l7, (b8 = true ↔ 0 < np S i ∧ nt S (lastN S i) < 4) → (b8 = true → l7 = nI (lastN S i)) → Z g x 10 75 [some (.ref m), some (.int (nI i)), some (.int nm), some (.int lo), some (.int hi), some (.int b), some (.int 1), some (.int l7), none, none] [.int (bI b8)] w 0 0 := by
        intro b8 l7 hb8 hl7
        refine Z.istore ok dX2_test_75 (by decide) ?_
        refine Z.aload_n ok dX2_test_77 rfl (by first | exact isRf.r _ | exact isRf.n | exact isRf.v _ | assumption) ?_
        refine Z.iload ok dX2_test_78 rfl ?_
        refine Z.if_ne (tgt := 87) ok dX2_test_80 (by decide) (fun _ => ?_) (fun hc => absurd hc (by decide))
        refine Z.iload_n ok dX2_test_87 rfl ?_
        refine Z.iload ok dX2_test_88 rfl ?_
        refine Z.callS ok (isRange_ct lo hi) q1530 q1531 q22 q1532 nk_X2_isRange rfl (by decide) (by first | exact Nat.le_of_ble_eq_true rfl | simp [Value.category, cat_rf]) (Nat.le_refl _) (Nat.le_refl _) dX2_test_90 rfl ZX.no (fun v9 w1 hp => ?_)
        obtain ⟨rfl, rfl⟩ := hp
        refine Z.if_ne (tgt := 100) ok dX2_test_93 (by decide) (fun hr => ?_) (fun hr => ?_)
        · rw [if_pos (bI_n0.mp hr)] at key
          refine Z.iload ok dX2_test_100 rfl ?_
          refine Z.if_eq (tgt := 109) ok dX2_test_102 (by decide) (fun hs => ?_) (fun hs => ?_)
          · refine Z.iconst_3 ok dX2_test_109 ?_
            have hb8' := bI_0.mp hs
            exact Z.fg (by simp [fgt]) (key 3 l7 (by rw [if_neg (fun h => absurd (hb8.mpr h) (by rw [hb8']; decide))]) (fun h => absurd h (by decide)))
          · refine Z.iconst_0 ok dX2_test_105 ?_
            refine Z.goto (tgt := 110) ok dX2_test_106 (by decide) ?_
            have hb8' := bI_n0.mp hs
            exact Z.fg (by simp [fgt]) (key 0 l7 (by rw [if_pos (hb8.mp hb8')]) (fun _ => hl7 hb8'))
        · have hr := bI_0.mp hr
          rw [hr] at key
          refine Z.iconst_2 ok dX2_test_96 ?_
          refine Z.goto (tgt := 110) ok dX2_test_97 (by decide) ?_
          exact Z.fg (by simp [fgt]) (key 2 l7 rfl (fun h => absurd h (by decide)))
      rw [e5]
      refine Z.if_le (tgt := 74) ok dX2_test_56 (by decide) (fun hp0 => ?_) (fun hp0 => ?_)
      · refine Z.iconst_0 ok dX2_test_74 ?_
        refine last false _ ⟨fun h => absurd h (by decide), fun h => absurd hp0 (nI_nle h.1 (by omega))⟩ (fun h => absurd h (by decide))
      · have hnp : 0 < np S i := by
          rcases Nat.eq_zero_or_pos (np S i) with h | h
          · rw [h] at hp0; exact absurd (by decide) hp0
          · exact h
        have hl60 : lastN S i < 60 := by omega
        obtain ⟨e10, l10⟩ := hI.2.2.1 _ hl60
        rw [show (3 : Int32) * nI i + nI (np S i) - 1 = nI (lastN S i) by rw [m3, nI_add, show 3 * i + np S i = lastN S i + 1 by omega, nI_pred]]
        refine Z.aload_n ok dX2_test_59 rfl (by first | exact isRf.r _ | exact isRf.n | exact isRf.v _ | assumption) ?_
        refine Z.get (ci := 1) (C := RX2) (T := TX2) (N := 15) ok (by first | assumption | exact ws_s | (rw [ws_n (by assumption)]; assumption)) rfl in_X2 10 (by decide) q1463 (Or.inl rfl) (by rfl) dX2_test_60 ?_
        refine Z.iload ok dX2_test_63 rfl ?_
        refine Z.ialdN ok h10 hl60 (by decide) dX2_test_65 ?_
        rw [e10]
        refine Z.iconst_4 ok dX2_test_66 ?_
        refine Z.icmp_ge (tgt := 74) ok dX2_test_67 (by decide) (fun ht => ?_) (fun ht => ?_)
        · refine Z.iconst_0 ok dX2_test_74 ?_
          have h4 := (nI_leI (a := 4) (by omega) (by omega)).mp ht
          exact last false _ ⟨fun h => absurd h (by decide), fun h => absurd h.2 (by omega)⟩ (fun h => absurd h (by decide))
        · refine Z.iconst_1 ok dX2_test_70 ?_
          refine Z.goto (tgt := 75) ok dX2_test_71 (by decide) ?_
          have h4 : nt S (lastN S i) < 4 := by
            rcases Nat.lt_or_ge (nt S (lastN S i)) 4 with h | h
            · exact h
            · exact absurd (nI_le h (by omega)) ht
          exact last true _ ⟨fun _ => ⟨hnp, h4⟩, fun _ => rfl⟩ (fun _ => rfl)
theorem withS_le (S : St) (z : Int32) : ∀ n, withS S z n ≤ n
  | 0 => Nat.le_refl 0
  | n + 1 => by
    have := withS_le S z n
    unfold withS
    split <;> omega
theorem withSize_lp (ok : OK g x RX2 cX2_withSize 4 4 (some .int)) {z : Int32} (hM : MR g w m ad S th) (hI : InvA S) (kk : Z g x 4 48 [some (.ref m), some (.int z), some (.int (nI (withS S z (nq S)))), some (.int (nI (nq S)))] [] w 0 0) : ∀ d q, q + d = nq S → Z g x 4 9 [some (.ref m), some (.int z), some (.int (nI (withS S z q))), some (.int (nI q))] [] w 0 0 := by
  have hm := hM.o
  have hn := hI.1.2
  intro d
  induction d with
  | zero =>
    intro q hq
    refine Z.iload_n ok dX2_withSize_9 rfl ?_
    refine Z.aload_n ok dX2_withSize_10 rfl (by first | exact isRf.r _ | exact isRf.n | exact isRf.v _ | assumption) ?_
    refine Z.get (ci := 1) (C := RX2) (T := TX2) (N := 15) ok (by first | assumption | exact ws_s | (rw [ws_n (by assumption)]; assumption)) rfl in_X2 2 (by decide) q1455 (Or.inl rfl) (by rfl) dX2_withSize_11 ?_
    rw [hI.1.1]
    refine Z.icmp_ge (tgt := 48) ok dX2_withSize_14 (by decide) (fun _ => ?_) (fun hc => absurd (nI_le (by omega) (by omega)) hc)
    rw [show q = nq S by omega]
    exact kk
  | succ d ih =>
    intro q hq
    refine Z.iload_n ok dX2_withSize_9 rfl ?_
    refine Z.aload_n ok dX2_withSize_10 rfl (by first | exact isRf.r _ | exact isRf.n | exact isRf.v _ | assumption) ?_
    refine Z.get (ci := 1) (C := RX2) (T := TX2) (N := 15) ok (by first | assumption | exact ws_s | (rw [ws_n (by assumption)]; assumption)) rfl in_X2 2 (by decide) q1455 (Or.inl rfl) (by rfl) dX2_withSize_11 ?_
    rw [hI.1.1]
    refine Z.icmp_ge (tgt := 48) ok dX2_withSize_14 (by decide) (fun hc => absurd hc (nI_ge (by omega) (by omega))) (fun _ => ?_)
    have key : Z g x 4 40 [some (.ref m), some (.int z), none, some (.int (nI q))] [.int (nI (if S 4 q = 0 ∧ nI (sizeN S q) = z then 1 else 0)), .int (nI (withS S z q))] w 0 0 := by
      refine Z.iadd ok dX2_withSize_40 ?_
      refine Z.istore_n (i := 2) ok dX2_withSize_41 rfl (by decide) ?_
      refine Z.iinc ok dX2_withSize_42 rfl rfl ?_
      refine Z.goto (tgt := 9) ok dX2_withSize_45 (by decide) ?_
      simp only [m3, m4, nI_add, nI_1, i1, List.set_cons_zero, List.set_cons_succ]
      exact ih (q + 1) (by omega)
    refine Z.iload_n ok dX2_withSize_17 rfl ?_
    refine Z.aload_n ok dX2_withSize_18 rfl (by first | exact isRf.r _ | exact isRf.n | exact isRf.v _ | assumption) ?_
    refine Z.iload_n ok dX2_withSize_19 rfl ?_
    refine Z.callV (ci := 1) (q := (RX2, TX2, 15)) (C := RX2) ok (isQuestion_ct hM hI (nI q)) (by first | assumption | exact ws_s | (rw [ws_n (by assumption)]; assumption)) rfl rfl q1516 q1518 (Or.inl qs8) q22 q1519 nk_X2_isQuestion rfl (by decide) (by first | exact Nat.le_of_ble_eq_true rfl | simp [Value.category, cat_rf]) (Nat.le_refl _) (Nat.le_refl _) dX2_withSize_20 rfl ZX.no (fun v w1 hp => ?_)
    obtain ⟨rfl, rfl⟩ := hp
    rw [isQ_nI hI (by omega)]
    refine Z.if_eq (tgt := 39) ok dX2_withSize_23 (by decide) (fun hc => ?_) (fun hc => ?_)
    · rw [if_neg (fun h => absurd h.1 (of_decide_eq_false (bI_0.mp hc)))] at key
      refine Z.iconst_0 ok dX2_withSize_39 ?_
      exact Z.fg (by simp [fgt]) key
    · have h4 := of_decide_eq_true (bI_n0.mp hc)
      refine Z.aload_n ok dX2_withSize_26 rfl (by first | exact isRf.r _ | exact isRf.n | exact isRf.v _ | assumption) ?_
      refine Z.iload_n ok dX2_withSize_27 rfl ?_
      refine Z.callV (ci := 1) (q := (RX2, TX2, 15)) (C := RX2) ok (size_ct hM hI (q := q) (by omega)) (by first | assumption | exact ws_s | (rw [ws_n (by assumption)]; assumption)) rfl rfl q1590 q1592 (Or.inl qs14) q22 q1593 nk_X2_size rfl (by decide) (by first | exact Nat.le_of_ble_eq_true rfl | simp [Value.category, cat_rf]) (Nat.le_refl _) (Nat.le_refl _) dX2_withSize_28 rfl ZX.no (fun v w1 hp => ?_)
      obtain ⟨rfl, rfl⟩ := hp
      refine Z.iload_n ok dX2_withSize_31 rfl ?_
      refine Z.icmp_ne (tgt := 39) ok dX2_withSize_32 (by decide) (fun hd => ?_) (fun hd => ?_)
      · rw [if_neg (fun h => hd h.2)] at key
        refine Z.iconst_0 ok dX2_withSize_39 ?_
        exact Z.fg (by simp [fgt]) key
      · rw [if_pos ⟨h4, hd⟩] at key
        refine Z.iconst_1 ok dX2_withSize_35 ?_
        refine Z.goto (tgt := 40) ok dX2_withSize_36 (by decide) ?_
        exact Z.fg (by simp [fgt]) key
theorem withSizeM_ct (hM : MR g w m ad S th) (hI : InvA S) (z : Int32) : Ct g yX2_withSize cX2_withSize 4 (some .int) 4 0 0 [.ref m, .int z] w (PM g w m ad (rI (nI (withS S z (nq S)))) S 0) noX := by
  refine Ct.of RX2 "withSize" ⟨rfl, rfl⟩ (by decide +kernel) (by simp [Value.category]) (Nat.le_of_ble_eq_true rfl) (fun x ok hQ hN => ?_)
  show Z g x 4 0 [some (.ref m), some (.int z), none, none] [] w 0 0
  have hm := hM.o
  refine Z.aload_n ok dX2_withSize_0 rfl (by first | exact isRf.r _ | exact isRf.n | exact isRf.v _ | assumption) ?_
  refine Z.iconst_0 ok dX2_withSize_1 ?_
  refine Z.put (ci := 1) (C := RX2) (T := TX2) (N := 15) (ty0 := tyX2) ok (by first | assumption | exact ws_s | (rw [ws_n (by assumption)]; assumption)) (by first | decide | assumption) rfl in_X2 tyX2_ok nmX2 0 (by decide) q1453 (Or.inl rfl) rfl (okV_i _) (by rfl) dX2_withSize_2 ?_
  obtain ⟨hM1, hF1⟩ := hM.pth 0
  refine Z.iconst_0 ok dX2_withSize_5 ?_
  refine Z.istore_n (i := 2) ok dX2_withSize_6 rfl (by decide) ?_
  refine Z.iconst_0 ok dX2_withSize_7 ?_
  refine Z.istore_n (i := 3) ok dX2_withSize_8 rfl (by decide) ?_
  simp only [m3, m4, nI_add, nI_1, i1, List.set_cons_zero, List.set_cons_succ]
  refine withSize_lp ok hM1 hI ?_ (nq S) 0 (by omega)
  refine Z.iload_n ok dX2_withSize_48 rfl ?_
  refine Z.iret ok hQ rfl dX2_withSize_49 ?_
  exact ⟨rfl, hM1, hF1⟩
theorem piece_step (ok : OK g x RX2 cX2_piece 4 1 (some .int)) {a b l t : Nat} (ha : a < 64) (hb : b < 64) (ht : 0 < t ∧ t ≤ 64) (kk : Z g x 4 4 [some (.int (nI a)), some (.int (nI b)), some (.int (nI (if a % t = 0 ∧ a + t - 1 ≤ b then t else l))), some (.int (nI (t + t)))] [] w 0 0) : Z g x 4 4 [some (.int (nI a)), some (.int (nI b)), some (.int (nI l)), some (.int (nI t))] [] w 0 0 := by
  refine Z.iload_n ok dX2_piece_4 rfl ?_
  refine Z.bipush (v := 64) ok dX2_piece_5 (by decide) ?_
  refine Z.icmp_gt (tgt := 38) ok dX2_piece_7 (by decide) (fun hc => absurd hc (by rw [show (64 : Int32) = nI 64 from rfl]; exact nI_nlt (by omega) (by omega))) (fun _ => ?_)
  have key : ∀ v, v = (if a % t = 0 ∧ a + t - 1 ≤ b then t else l) → Z g x 4 30 [some (.int (nI a)), some (.int (nI b)), some (.int (nI l)), some (.int (nI t))] [.int (nI v)] w 0 0 := by
    intro v hv
    refine Z.istore_n (i := 2) ok dX2_piece_30 rfl (by decide) ?_
    refine Z.iload_n ok dX2_piece_31 rfl ?_
    refine Z.iload_n ok dX2_piece_32 rfl ?_
    refine Z.iadd ok dX2_piece_33 ?_
    refine Z.istore_n (i := 3) ok dX2_piece_34 rfl (by decide) ?_
    refine Z.goto (tgt := 4) ok dX2_piece_35 (by decide) ?_
    simp only [m3, m4, nI_add, nI_1, i1, List.set_cons_zero, List.set_cons_succ]
    rw [hv]
    exact kk
  refine Z.iload_n ok dX2_piece_10 rfl ?_
  refine Z.iload_n ok dX2_piece_11 rfl ?_
  refine Z.irem ok dX2_piece_12 (nI_ne0 ht.1 (by omega)) ?_
  rw [pk_rem (by omega) ht.1 (by omega)]
  refine Z.if_ne (tgt := 29) ok dX2_piece_13 (by decide) (fun hc => ?_) (fun hc => ?_)
  · have h0 : ¬ a % t = 0 := fun h => hc (by rw [h]; rfl)
    refine Z.iload_n ok dX2_piece_29 rfl ?_
    exact key l (by rw [if_neg (fun h => h0 h.1)])
  · have h0 : a % t = 0 := (nI_eq (b := 0) (by have := Nat.mod_lt a ht.1; omega) (by omega)).mp hc
    refine Z.iload_n ok dX2_piece_16 rfl ?_
    refine Z.iload_n ok dX2_piece_17 rfl ?_
    refine Z.iadd ok dX2_piece_18 ?_
    refine Z.iconst_1 ok dX2_piece_19 ?_
    refine Z.isub ok dX2_piece_20 ?_
    refine Z.iload_n ok dX2_piece_21 rfl ?_
    rw [nI_add, show a + t = (a + t - 1) + 1 by omega, nI_pred]
    refine Z.icmp_gt (tgt := 29) ok dX2_piece_22 (by decide) (fun hd => ?_) (fun hd => ?_)
    · have h1 := (nI_ltI (by omega) (by omega)).mp hd
      refine Z.iload_n ok dX2_piece_29 rfl ?_
      exact key l (by rw [if_neg (fun h => absurd h.2 (by omega))])
    · have h1 : a + t - 1 ≤ b := by
        rcases Nat.lt_or_ge b (a + t - 1) with h | h
        · exact absurd (nI_lt h (by omega)) hd
        · exact h
      refine Z.iload_n ok dX2_piece_25 rfl ?_
      refine Z.goto (tgt := 30) ok dX2_piece_26 (by decide) ?_
      exact key t (by rw [if_pos ⟨h0, h1⟩])
theorem pieceM_ct (a b : Nat) (ha : a < 64) (hb : b < 64) : Ct g yX2_piece cX2_piece 4 (some .int) 1 0 0 [.int (nI a), .int (nI b)] w (PW (rI (nI (pieceN a b))) w) noX := by
  refine Ct.of RX2 "piece" ⟨rfl, rfl⟩ (by decide +kernel) (by simp [Value.category]) (Nat.le_of_ble_eq_true rfl) (fun x ok hQ hN => ?_)
  show Z g x 4 0 [some (.int (nI a)), some (.int (nI b)), none, none] [] w 0 0
  refine Z.iconst_1 ok dX2_piece_0 ?_
  refine Z.istore_n (i := 2) ok dX2_piece_1 rfl (by decide) ?_
  refine Z.iconst_2 ok dX2_piece_2 ?_
  refine Z.istore_n (i := 3) ok dX2_piece_3 rfl (by decide) ?_
  show Z g x 4 4 [some (.int (nI a)), some (.int (nI b)), some (.int (nI 1)), some (.int (nI 2))] [] w 0 0
  refine piece_step ok ha hb (by decide) ?_
  refine piece_step ok ha hb (by decide) ?_
  refine piece_step ok ha hb (by decide) ?_
  refine piece_step ok ha hb (by decide) ?_
  refine piece_step ok ha hb (by decide) ?_
  refine piece_step ok ha hb (by decide) ?_
  refine Z.iload_n ok dX2_piece_4 rfl ?_
  refine Z.bipush (v := 64) ok dX2_piece_5 (by decide) ?_
  refine Z.icmp_gt (tgt := 38) ok dX2_piece_7 (by decide) (fun _ => ?_) (fun hc => absurd (by decide) hc)
  refine Z.iload_n ok dX2_piece_38 rfl ?_
  refine Z.iret ok hQ rfl dX2_piece_39 ?_
  exact ⟨rfl, rfl⟩
theorem fold_keep (a b : Nat) : ∀ (L : List Nat) (l : Nat), (l = 1 ∨ a + l - 1 ≤ b) → (L.foldl (fun l t => if a % t = 0 ∧ a + t - 1 ≤ b then t else l) l = 1 ∨ a + L.foldl (fun l t => if a % t = 0 ∧ a + t - 1 ≤ b then t else l) l - 1 ≤ b)
  | [], l, h => h
  | t :: L, l, h => by
    rw [List.foldl_cons]
    apply fold_keep
    split
    · rename_i hh
      exact Or.inr hh.2
    · exact h
theorem pieceN_fit {a b : Nat} (h : a ≤ b) : a + pieceN a b ≤ b + 1 := by
  have := pieceN_pos a b
  rcases fold_keep a b [2, 4, 8, 16, 32, 64] 1 (Or.inl rfl) with h1 | h1
  · have h2 : pieceN a b = 1 := h1
    omega
  · have h2 : a + pieceN a b - 1 ≤ b := h1
    omega
theorem rngB_nI {lo hi : Int32} (h : rngB lo hi = true) : ∃ a b : Nat, a ≤ b ∧ b < 64 ∧ lo = nI a ∧ hi = nI b ∧ qN lo = a ∧ qN hi = b := by
  rw [rngB, Bool.and_eq_true] at h
  obtain ⟨a, ha, rfl, ea⟩ := inB_nI (n := 63) (by decide) h.1
  obtain ⟨b1, b2⟩ := inB_t.mp h.2
  have h0 : (0 : Int32) ≤ hi := by
    have := Int32.le_iff_toInt_le.mp b1
    rw [nI_toInt (by omega)] at this
    rw [Int32.le_iff_toInt_le, Int32.toInt_zero]
    omega
  obtain ⟨b, hb, rfl, eb⟩ := inB_nI (v := hi) (n := 63) (by decide) (inB_t.mpr ⟨h0, b2⟩)
  exact ⟨a, b, (nI_leI (by omega) (by omega)).mp b1, by omega, rfl, rfl, ea, eb⟩
def rngK (lo hi : Int32) : Int32 := if rngB lo hi then 0 else 1
theorem rngK_0 {lo hi : Int32} (h : rngK lo hi = 0) : rngB lo hi = true := by
  unfold rngK at h
  split at h
  · assumption
  · exact absurd h (by decide)
theorem pieces_lp2 (ok : OK g x RX2 cX2_pieces 5 4 (some .int)) {b N : Nat} {l1 : Int32} (hb : b < 64) (kk : ∀ at_, Z g x 5 50 [some (.ref m), some (.int l1), some (.int (nI b)), some (.int (nI N)), some (.int at_)] [] w 0 0) : ∀ f a n, b + 1 ≤ a + f → a ≤ b + 1 → n + piecesN b f a = N → Z g x 5 27 [some (.ref m), some (.int l1), some (.int (nI b)), some (.int (nI n)), some (.int (nI a))] [] w 0 0 := by
  intro f
  induction f with
  | zero =>
    intro a n hf ha hN
    refine Z.iload ok dX2_pieces_27 rfl ?_
    refine Z.iload_n ok dX2_pieces_29 rfl ?_
    refine Z.icmp_gt (tgt := 50) ok dX2_pieces_30 (by decide) (fun _ => ?_) (fun hc => absurd (nI_lt (by omega) (by omega)) hc)
    rw [show n = N by unfold piecesN at hN; omega]
    exact kk _
  | succ f ih =>
    intro a n hf ha hN
    refine Z.iload ok dX2_pieces_27 rfl ?_
    refine Z.iload_n ok dX2_pieces_29 rfl ?_
    unfold piecesN at hN
    by_cases h : a ≤ b
    · rw [if_pos h] at hN
      have h1 := pieceN_fit h
      have h2 := pieceN_pos a b
      refine Z.icmp_gt (tgt := 50) ok dX2_pieces_30 (by decide) (fun hc => absurd hc (nI_nlt h (by omega))) (fun _ => ?_)
      refine Z.iinc ok dX2_pieces_33 rfl rfl ?_
      refine Z.iload ok dX2_pieces_36 rfl ?_
      refine Z.iload ok dX2_pieces_38 rfl ?_
      refine Z.iload_n ok dX2_pieces_40 rfl ?_
      simp only [m3, m4, nI_add, nI_1, i1, List.set_cons_zero, List.set_cons_succ]
      refine Z.callS ok (pieceM_ct a b (by omega) hb) q1602 q1603 q22 q1604 nk_X2_piece rfl (by decide) (by first | exact Nat.le_of_ble_eq_true rfl | simp [Value.category, cat_rf]) (Nat.le_refl _) (Nat.le_refl _) dX2_pieces_41 rfl ZX.no (fun v w1 hp => ?_)
      obtain ⟨rfl, rfl⟩ := hp
      refine Z.iadd ok dX2_pieces_44 ?_
      refine Z.istore ok dX2_pieces_45 (by decide) ?_
      refine Z.goto (tgt := 27) ok dX2_pieces_47 (by decide) ?_
      simp only [m3, m4, nI_add, nI_1, i1, List.set_cons_zero, List.set_cons_succ]
      exact ih (a + pieceN a b) (n + 1) (by omega) (by omega) (by omega)
    · rw [if_neg h] at hN
      refine Z.icmp_gt (tgt := 50) ok dX2_pieces_30 (by decide) (fun _ => ?_) (fun hc => absurd (nI_lt (by omega) (by omega)) hc)
      rw [show n = N by omega]
      exact kk _
theorem piecesM_ct (hM : MR g w m ad S th) (lo hi : Int32) : Ct g yX2_pieces cX2_pieces 5 (some .int) 4 0 0 [.ref m, .int lo, .int hi] w (PM g w m ad (rI (if rngK lo hi = 0 then nI (piecesN (qN hi) 64 (qN lo)) else 0)) S (rngK lo hi)) noX := by
  refine Ct.of RX2 "pieces" ⟨rfl, rfl⟩ (by decide +kernel) (by simp [Value.category]) (Nat.le_of_ble_eq_true rfl) (fun x ok hQ hN => ?_)
  show Z g x 5 0 [some (.ref m), some (.int lo), some (.int hi), none, none] [] w 0 0
  have hm := hM.o
  have key : ∀ k, k = rngK lo hi → Z g x 5 14 [some (.ref m), some (.int lo), some (.int hi), none, none] [.int k, .ref m] w 0 0 := by
    intro k hk
    refine Z.callV (ci := 1) (q := (RX2, TX2, 15)) (C := RX2) ok (holds_ct hM k) (by first | assumption | exact ws_s | (rw [ws_n (by assumption)]; assumption)) rfl rfl q1508 q1510 (Or.inl qs7) q22 q1511 nk_X2_holds rfl (by decide) (by first | exact Nat.le_of_ble_eq_true rfl | simp [Value.category, cat_rf]) (Nat.le_refl _) (Nat.le_refl _) dX2_pieces_14 rfl ZX.no (fun v w1 hp => ?_)
    obtain ⟨rfl, hM1, hF1⟩ := hp
    refine Z.if_ne (tgt := 22) ok dX2_pieces_17 (by decide) (fun hc => ?_) (fun hc => ?_)
    · have h0 : k = 0 := of_decide_eq_true (bI_n0.mp hc)
      subst h0
      obtain ⟨a, b, hab, hb, rfl, rfl, ea, eb⟩ := rngB_nI (rngK_0 hk.symm)
      refine Z.iconst_0 ok dX2_pieces_22 ?_
      refine Z.istore_n (i := 3) ok dX2_pieces_23 rfl (by decide) ?_
      refine Z.iload_n ok dX2_pieces_24 rfl ?_
      refine Z.istore ok dX2_pieces_25 (by decide) ?_
      refine pieces_lp2 (N := piecesN b 64 a) ok hb ?_ 64 a 0 (by omega) (by omega) (by omega)
      intro at_
      refine Z.iload_n ok dX2_pieces_50 rfl ?_
      refine Z.iret ok hQ rfl dX2_pieces_51 ?_
      rw [ea, eb]
      exact ⟨by rw [if_pos hk.symm], by rw [← hk]; exact hM1, hF1⟩
    · have h0 : ¬ k = 0 := of_decide_eq_false (bI_0.mp hc)
      refine Z.iconst_0 ok dX2_pieces_20 ?_
      refine Z.iret ok hQ rfl dX2_pieces_21 ?_
      rw [← hk, if_neg h0]
      exact ⟨rfl, hM1, hF1⟩
  refine Z.aload_n ok dX2_pieces_0 rfl (by first | exact isRf.r _ | exact isRf.n | exact isRf.v _ | assumption) ?_
  refine Z.iload_n ok dX2_pieces_1 rfl ?_
  refine Z.iload_n ok dX2_pieces_2 rfl ?_
  refine Z.callS ok (isRange_ct lo hi) q1530 q1531 q22 q1532 nk_X2_isRange rfl (by decide) (by first | exact Nat.le_of_ble_eq_true rfl | simp [Value.category, cat_rf]) (Nat.le_refl _) (Nat.le_refl _) dX2_pieces_3 rfl ZX.no (fun v w1 hp => ?_)
  obtain ⟨rfl, rfl⟩ := hp
  unfold rngK at key
  refine Z.if_eq (tgt := 13) ok dX2_pieces_6 (by decide) (fun hc => ?_) (fun hc => ?_)
  · rw [bI_0.mp hc] at key
    refine Z.iconst_1 ok dX2_pieces_13 ?_
    exact key 1 rfl
  · rw [bI_n0.mp hc] at key
    refine Z.iconst_0 ok dX2_pieces_9 ?_
    refine Z.goto (tgt := 14) ok dX2_pieces_10 (by decide) ?_
    exact key 0 rfl
theorem pieceAt_lp (ok : OK g x RX2 cX2_pieceAt 6 4 (some .int)) {b k : Nat} {l1 : Int32} {P : Int32 → Prop} (hb : b < 64) (hk : k < 2 ^ 31) {R : Int32} (hR : ∀ (L : List (Option Value)) (pc : Nat), decode cX2_pieceAt pc = .ok (.ireturn, 1) → Z g x 6 pc L [.int R] w 0 0) : ∀ f a n, b + 1 ≤ a + f → a ≤ b + 1 → n ≤ a → pieceAtN b k f a n = R → Z g x 6 36 [some (.ref m), some (.int l1), some (.int (nI b)), some (.int (nI k)), some (.int (nI n)), some (.int (nI a))] [] w 0 0 := by
  intro f
  induction f with
  | zero =>
    intro a n hf ha hn hN
    refine Z.iload ok dX2_pieceAt_36 rfl ?_
    refine Z.iload_n ok dX2_pieceAt_38 rfl ?_
    refine Z.icmp_gt (tgt := 78) ok dX2_pieceAt_39 (by decide) (fun _ => ?_) (fun hc => absurd (nI_lt (by omega) (by omega)) hc)
    refine Z.iconst_m1 ok dX2_pieceAt_78 ?_
    rw [show (-1 : Int32) = R from hN]
    exact hR _ _ dX2_pieceAt_79
  | succ f ih =>
    intro a n hf ha hn hN
    unfold pieceAtN at hN
    refine Z.iload ok dX2_pieceAt_36 rfl ?_
    refine Z.iload_n ok dX2_pieceAt_38 rfl ?_
    by_cases h : a ≤ b
    · rw [if_pos h] at hN
      have h1 := pieceN_fit h
      have h2 := pieceN_pos a b
      refine Z.icmp_gt (tgt := 78) ok dX2_pieceAt_39 (by decide) (fun hc => absurd hc (nI_nlt h (by omega))) (fun _ => ?_)
      refine Z.iload ok dX2_pieceAt_42 rfl ?_
      refine Z.iload_n ok dX2_pieceAt_44 rfl ?_
      by_cases hnk : n = k
      · rw [if_pos hnk] at hN
        rw [hnk]
        refine Z.icmp_ne (tgt := 61) ok dX2_pieceAt_45 (by decide) (fun hc => absurd rfl hc) (fun _ => ?_)
        refine Z.bipush (v := 100) ok dX2_pieceAt_48 (by decide) ?_
        refine Z.iload ok dX2_pieceAt_50 rfl ?_
        refine Z.imul ok dX2_pieceAt_52 ?_
        refine Z.iload ok dX2_pieceAt_53 rfl ?_
        refine Z.iload_n ok dX2_pieceAt_55 rfl ?_
        refine Z.callS ok (pieceM_ct a b (by omega) hb) q1602 q1603 q22 q1604 nk_X2_piece rfl (by decide) (by first | exact Nat.le_of_ble_eq_true rfl | simp [Value.category, cat_rf]) (Nat.le_refl _) (Nat.le_refl _) dX2_pieceAt_56 rfl ZX.no (fun v w1 hp => ?_)
        obtain ⟨rfl, rfl⟩ := hp
        refine Z.iadd ok dX2_pieceAt_59 ?_
        rw [show (100 : Int32) * nI a = nI (100 * a) from pk_mul 100 a, nI_add, hN]
        exact hR _ _ dX2_pieceAt_60
      · rw [if_neg hnk] at hN
        refine Z.icmp_ne (tgt := 61) ok dX2_pieceAt_45 (by decide) (fun _ => ?_) (fun hc => absurd hc (fun q => hnk ((nI_eq (by omega) (by omega)).mp q)))
        refine Z.iinc ok dX2_pieceAt_61 rfl rfl ?_
        refine Z.iload ok dX2_pieceAt_64 rfl ?_
        refine Z.iload ok dX2_pieceAt_66 rfl ?_
        refine Z.iload_n ok dX2_pieceAt_68 rfl ?_
        simp only [m3, m4, nI_add, nI_1, i1, List.set_cons_zero, List.set_cons_succ]
        refine Z.callS ok (pieceM_ct a b (by omega) hb) q1602 q1603 q22 q1604 nk_X2_piece rfl (by decide) (by first | exact Nat.le_of_ble_eq_true rfl | simp [Value.category, cat_rf]) (Nat.le_refl _) (Nat.le_refl _) dX2_pieceAt_69 rfl ZX.no (fun v w1 hp => ?_)
        obtain ⟨rfl, rfl⟩ := hp
        refine Z.iadd ok dX2_pieceAt_72 ?_
        refine Z.istore ok dX2_pieceAt_73 (by decide) ?_
        refine Z.goto (tgt := 36) ok dX2_pieceAt_75 (by decide) ?_
        simp only [m3, m4, nI_add, nI_1, i1, List.set_cons_zero, List.set_cons_succ]
        exact ih (a + pieceN a b) (n + 1) (by omega) (by omega) (by omega) hN
    · rw [if_neg h] at hN
      refine Z.icmp_gt (tgt := 78) ok dX2_pieceAt_39 (by decide) (fun _ => ?_) (fun hc => absurd (nI_lt (by omega) (by omega)) hc)
      refine Z.iconst_m1 ok dX2_pieceAt_78 ?_
      rw [hN]
      exact hR _ _ dX2_pieceAt_79
def patK (lo hi k : Int32) : Int32 := if k < 0 then 1 else if rngB lo hi then 0 else 2
theorem patK_0 {lo hi k : Int32} (h : patK lo hi k = 0) : ¬ k < 0 ∧ rngB lo hi = true := by
  unfold patK at h
  split at h
  · exact absurd h (by decide)
  · split at h
    · exact ⟨by assumption, by assumption⟩
    · exact absurd h (by decide)
theorem pieceAtM_ct (hM : MR g w m ad S th) (lo hi k : Int32) : Ct g yX2_pieceAt cX2_pieceAt 6 (some .int) 4 0 0 [.ref m, .int lo, .int hi, .int k] w (PM g w m ad (rI (if patK lo hi k = 0 then pieceAtN (qN hi) (qN k) 64 (qN lo) 0 else 0)) S (patK lo hi k)) noX := by
  refine Ct.of RX2 "pieceAt" ⟨rfl, rfl⟩ (by decide +kernel) (by simp [Value.category]) (Nat.le_of_ble_eq_true rfl) (fun x ok hQ hN => ?_)
  show Z g x 6 0 [some (.ref m), some (.int lo), some (.int hi), some (.int k), none, none] [] w 0 0
  have hm := hM.o
  have key : ∀ c, c = patK lo hi k → Z g x 6 22 [some (.ref m), some (.int lo), some (.int hi), some (.int k), none, none] [.int c, .ref m] w 0 0 := by
    intro c hk
    refine Z.callV (ci := 1) (q := (RX2, TX2, 15)) (C := RX2) ok (holds_ct hM c) (by first | assumption | exact ws_s | (rw [ws_n (by assumption)]; assumption)) rfl rfl q1508 q1510 (Or.inl qs7) q22 q1511 nk_X2_holds rfl (by decide) (by first | exact Nat.le_of_ble_eq_true rfl | simp [Value.category, cat_rf]) (Nat.le_refl _) (Nat.le_refl _) dX2_pieceAt_22 rfl ZX.no (fun v w1 hp => ?_)
    obtain ⟨rfl, hM1, hF1⟩ := hp
    refine Z.if_ne (tgt := 30) ok dX2_pieceAt_25 (by decide) (fun hc => ?_) (fun hc => ?_)
    · have h0 : c = 0 := of_decide_eq_true (bI_n0.mp hc)
      subst h0
      obtain ⟨k0, hr⟩ := patK_0 hk.symm
      obtain ⟨a, b, hab, hb, rfl, rfl, ea, eb⟩ := rngB_nI hr
      obtain ⟨j, hj, rfl⟩ := nI_of k0
      refine Z.iconst_0 ok dX2_pieceAt_30 ?_
      refine Z.istore ok dX2_pieceAt_31 (by decide) ?_
      refine Z.iload_n ok dX2_pieceAt_33 rfl ?_
      refine Z.istore ok dX2_pieceAt_34 (by decide) ?_
      refine pieceAt_lp (P := fun _ => True) (R := pieceAtN b j 64 a 0) ok hb hj ?_ 64 a 0 (by omega) (by omega) (by omega) rfl
      intro L pc hd
      refine Z.iret ok hQ rfl hd ?_
      rw [ea, eb, show qN (nI j) = j from nI_clamp hj]
      exact ⟨by rw [if_pos hk.symm], by rw [← hk]; exact hM1, hF1⟩
    · have h0 : ¬ c = 0 := of_decide_eq_false (bI_0.mp hc)
      refine Z.iconst_0 ok dX2_pieceAt_28 ?_
      refine Z.iret ok hQ rfl dX2_pieceAt_29 ?_
      rw [← hk, if_neg h0]
      exact ⟨rfl, hM1, hF1⟩
  unfold patK at key
  refine Z.aload_n ok dX2_pieceAt_0 rfl (by first | exact isRf.r _ | exact isRf.n | exact isRf.v _ | assumption) ?_
  refine Z.iload_n ok dX2_pieceAt_1 rfl ?_
  refine Z.if_ge (tgt := 9) ok dX2_pieceAt_2 (by decide) (fun hc => ?_) (fun hc => ?_)
  · rw [if_neg (lt_dec.mpr hc)] at key
    refine Z.iload_n ok dX2_pieceAt_9 rfl ?_
    refine Z.iload_n ok dX2_pieceAt_10 rfl ?_
    refine Z.callS ok (isRange_ct lo hi) q1530 q1531 q22 q1532 nk_X2_isRange rfl (by decide) (by first | exact Nat.le_of_ble_eq_true rfl | simp [Value.category, cat_rf]) (Nat.le_refl _) (Nat.le_refl _) dX2_pieceAt_11 rfl ZX.no (fun v w1 hp => ?_)
    obtain ⟨rfl, rfl⟩ := hp
    refine Z.if_eq (tgt := 21) ok dX2_pieceAt_14 (by decide) (fun hd => ?_) (fun hd => ?_)
    · rw [bI_0.mp hd] at key
      refine Z.iconst_2 ok dX2_pieceAt_21 ?_
      exact key 2 rfl
    · rw [bI_n0.mp hd] at key
      refine Z.iconst_0 ok dX2_pieceAt_17 ?_
      refine Z.goto (tgt := 22) ok dX2_pieceAt_18 (by decide) ?_
      exact key 0 rfl
  · rw [if_pos (le_dec.mp hc)] at key
    refine Z.iconst_1 ok dX2_pieceAt_5 ?_
    refine Z.goto (tgt := 22) ok dX2_pieceAt_6 (by decide) ?_
    exact key 1 rfl
end MODEL6
