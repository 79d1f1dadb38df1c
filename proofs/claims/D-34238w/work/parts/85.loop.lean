/-! ===== THE LAW's LOOP ===== -/
section LOOP
variable {g : Gx}
theorem neg6 : ∀ n : Nat, n < 6 → nI n - 6 < 0 := by decide
theorem and31 (v : Int32) : ∃ k : Nat, k < 32 ∧ v &&& 31 = nI k := ⟨ix 5 v, ix_lt 5 v, ix_maskC (e := 5) (by decide) v⟩
theorem law_loop {x : Cx} {b Ls a m ou : Nat} {xs : Nat → Int32} {ad : Nat → Nat} (ok : OK g x "AlertIndexLaw" cL_law 7 13 ret) (hs : SX g x b Ls xs) (hL : Ls ≤ 384) (hEnd : ∀ (L : List (Option Value)) (w : Wd) (kc ks : Nat), Z g x 7 1126 L [.int 1] w kc ks) : ∀ (f j : Nat) (w : Wd) (S : St) (th : Int32) (l5 l6 : Option Value), j + f = 64 → LI g w a m ou ad S j th → Z g x 7 23 [some (.ref b), some (.ref a), some (.ref m), some (.ref ou), some (.int (nI (6 * j))), l5, l6] [] w (rC f) (rS f) := by
  intro f
  induction f with
  | zero =>
    intro j w S th l5 l6 hj h
    refine Z.iload ok dL_law_23 rfl ?_
    refine Z.aload_n ok dL_law_25 rfl (by first | exact isRf.r _ | exact isRf.n | exact isRf.v _ | assumption) ?_
    refine Z.slen ok hs dL_law_26 ?_
    refine Z.bipush (v := 6) ok dL_law_27 (by decide) ?_
    refine Z.isub ok dL_law_29 ?_
    have hgt : nI Ls - 6 < nI (6 * j) := by
      by_cases c : Ls < 6
      · exact Int32.lt_of_lt_of_le (neg6 Ls c) (nI_pos' (by omega))
      · have e : nI Ls - 6 = nI (Ls - 6) := pk_sub (b := 6) (by omega)
        rw [e]
        exact nI_lt (by omega) (by omega)
    refine Z.icmp_gt (tgt := 1125) ok dL_law_30 (by decide) (fun _ => ?_) (fun hc => absurd hgt hc)
    refine Z.iconst_1 ok dL_law_1125 ?_
    exact hEnd _ _ _ _
  | succ f ih =>
    intro j w S th l5 l6 hj h
    have e63 : 63 - f = j := by omega
    rw [rC, rS, e63]
    refine Z.iload ok dL_law_23 rfl ?_
    refine Z.aload_n ok dL_law_25 rfl (by first | exact isRf.r _ | exact isRf.n | exact isRf.v _ | assumption) ?_
    refine Z.slen ok hs dL_law_26 ?_
    refine Z.bipush (v := 6) ok dL_law_27 (by decide) ?_
    refine Z.isub ok dL_law_29 ?_
    by_cases hin : 6 * j + 6 ≤ Ls
    · have e : nI Ls - 6 = nI (Ls - 6) := pk_sub (b := 6) (by omega)
      rw [e]
      refine Z.icmp_gt (tgt := 1125) ok dL_law_30 (by decide) (fun hc => absurd hc (nI_nlt (show 6 * j ≤ Ls - 6 by omega) (by omega))) (fun _ => ?_)
      have kont : ∀ (w : Wd) (S : St) (th : Int32) (l5 l6 : Option Value), LI g w a m ou ad S (j + 1) th → Z g x 7 1119 [some (.ref b), some (.ref a), some (.ref m), some (.ref ou), some (.int (nI (6 * j))), l5, l6] [] w (rC f) (rS f) := by
        intro w S th l5 l6 hLI
        have e3 : nI (6 * j) + Int32.ofInt 6 = nI (6 * (j + 1)) := nI_add (6 * j) 6
        have hz := ih (j + 1) w S th l5 l6 (by omega) hLI
        rw [← e3] at hz
        refine Z.iinc ok dL_law_1119 rfl rfl ?_
        refine Z.goto (tgt := 23) ok dL_law_1122 (by decide) ?_
        exact hz
      refine Z.aload_n ok dL_law_33 rfl (by first | exact isRf.r _ | exact isRf.n | exact isRf.v _ | assumption) ?_
      refine Z.iload ok dL_law_34 rfl ?_
      refine Z.sld ok hs (vp_in_nI (by omega) (by omega)) dL_law_36 ?_
      rw [nI_clamp (by omega)]
      refine Z.bipush (v := 31) ok dL_law_37 (by decide) ?_
      refine Z.iand ok dL_law_39 ?_
      obtain ⟨k, hk, ek⟩ := and31 (xs (6 * j))
      rw [ek]
      have hcs : k = 0 ∨ k = 1 ∨ k = 2 ∨ k = 3 ∨ k = 4 ∨ k = 5 ∨ k = 6 ∨ k = 7 ∨ k = 8 ∨ k = 9 ∨ k = 10 ∨ k = 11 ∨ k = 12 ∨ k = 13 ∨ k = 14 ∨ k = 15 ∨ k = 16 ∨ k = 17 ∨ k = 18 ∨ 19 ≤ k := by omega
      rcases hcs with rfl | rfl | rfl | rfl | rfl | rfl | rfl | rfl | rfl | rfl | rfl | rfl | rfl | rfl | rfl | rfl | rfl | rfl | rfl | h19
      · refine Z.tableIn (tgt := 132) ok dL_law_40 (by decide) (by decide) rfl (by decide) ?_
        exact law_c0 (f := f) ok hs h hin hL kont
      · refine Z.tableIn (tgt := 176) ok dL_law_40 (by decide) (by decide) rfl (by decide) ?_
        exact law_c1 (f := f) ok hs h hin hL kont
      · refine Z.tableIn (tgt := 232) ok dL_law_40 (by decide) (by decide) rfl (by decide) ?_
        exact law_c2 (f := f) ok hs h hin hL kont
      · refine Z.tableIn (tgt := 352) ok dL_law_40 (by decide) (by decide) rfl (by decide) ?_
        exact law_c3 (f := f) ok hs h hin hL kont
      · refine Z.tableIn (tgt := 408) ok dL_law_40 (by decide) (by decide) rfl (by decide) ?_
        exact law_c4 (f := f) ok hs h hin hL kont
      · refine Z.tableIn (tgt := 476) ok dL_law_40 (by decide) (by decide) rfl (by decide) ?_
        exact law_c5 (f := f) ok hs h hin hL kont
      · refine Z.tableIn (tgt := 544) ok dL_law_40 (by decide) (by decide) rfl (by decide) ?_
        exact law_c6 (f := f) ok hs h hin hL kont
      · refine Z.tableIn (tgt := 557) ok dL_law_40 (by decide) (by decide) rfl (by decide) ?_
        exact law_c7 (f := f) ok hs h hin hL kont
      · refine Z.tableIn (tgt := 613) ok dL_law_40 (by decide) (by decide) rfl (by decide) ?_
        exact law_c8 (f := f) ok hs h hin hL kont
      · refine Z.tableIn (tgt := 676) ok dL_law_40 (by decide) (by decide) rfl (by decide) ?_
        exact law_c9 (f := f) ok hs h hin hL kont
      · refine Z.tableIn (tgt := 689) ok dL_law_40 (by decide) (by decide) rfl (by decide) ?_
        exact law_c10 (f := f) ok hs h hin hL kont
      · refine Z.tableIn (tgt := 702) ok dL_law_40 (by decide) (by decide) rfl (by decide) ?_
        exact law_c11 (f := f) ok hs h hin hL kont
      · refine Z.tableIn (tgt := 758) ok dL_law_40 (by decide) (by decide) rfl (by decide) ?_
        exact law_c12 (f := f) ok hs h hin hL kont
      · refine Z.tableIn (tgt := 783) ok dL_law_40 (by decide) (by decide) rfl (by decide) ?_
        exact law_c13 (f := f) ok hs h hin hL kont
      · refine Z.tableIn (tgt := 851) ok dL_law_40 (by decide) (by decide) rfl (by decide) ?_
        exact law_c14 (f := f) ok hs h hin hL kont
      · refine Z.tableIn (tgt := 931) ok dL_law_40 (by decide) (by decide) rfl (by decide) ?_
        exact law_c15 (f := f) ok hs h hin hL kont
      · refine Z.tableIn (tgt := 944) ok dL_law_40 (by decide) (by decide) rfl (by decide) ?_
        exact law_c16 (f := f) ok hs h hin hL kont
      · refine Z.tableIn (tgt := 1007) ok dL_law_40 (by decide) (by decide) rfl (by decide) ?_
        exact law_c17 (f := f) ok hs h hin hL kont
      · refine Z.tableIn (tgt := 1063) ok dL_law_40 (by decide) (by decide) rfl (by decide) ?_
        exact law_c18 (f := f) ok hs h hin hL kont
      · refine Z.tableOut (tgt := 1119) ok dL_law_40 (Or.inr (by rw [nI_toInt (by omega)]; omega)) (by decide) ?_
        obtain ⟨h2, h3, h4, h5⟩ := h
        exact Z.room (by omega) (by omega) (kont w S th _ _ ⟨h2.le (Nat.le_succ j), h3.le (Nat.le_succ j), h4, h5⟩)
    · have hgt : nI Ls - 6 < nI (6 * j) := by
        by_cases c : Ls < 6
        · exact Int32.lt_of_lt_of_le (neg6 Ls c) (nI_pos' (by omega))
        · have e : nI Ls - 6 = nI (Ls - 6) := pk_sub (b := 6) (by omega)
          rw [e]
          exact nI_lt (by omega) (by omega)
      refine Z.icmp_gt (tgt := 1125) ok dL_law_30 (by decide) (fun _ => ?_) (fun hc => absurd hgt hc)
      refine Z.iconst_1 ok dL_law_1125 ?_
      exact hEnd _ _ _ _
theorem room_all : rC 64 ≤ 1000000 ∧ rS 64 ≤ 5000000 := by decide +kernel
end LOOP
