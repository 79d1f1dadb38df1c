/-! ===== ALERTINDEX: matching, withSize ===== -/
section CLS2
variable {g : Gx} {w : Wd} {S : St}
theorem mt_loop {x : Cx} {a lq d mm li : Nat} {qs : List Nat} (ok : OK g x RX1 cX1_matching 4 7 (some .int)) (hQ : EndQ g x (PW (rI (foundS S (nq S))) w) noX) (hA : isAb g w a S lq d mm li qs) (hI : InvA S) : ∀ (n j : Nat) (l3 : Option Value), j + n = nq S → Z g x 4 4 [some (.ref a), some (.int (foundS S j)), some (.int (nI j)), l3] [] w 0 0
  | 0, j, l3, hj => by
    obtain ⟨ha, hd, hl, hlen, hqs⟩ := hA
    have hn2 := hI.1.2
    obtain ⟨fsl, hlo⟩ := hl.obj
    refine Z.iload_n ok dX1_matching_4 rfl ?_
    refine Z.aload_n ok dX1_matching_5 rfl (by first | exact isRf.r _ | exact isRf.n | exact isRf.v _ | assumption) ?_
    refine Z.get (ci := 0) (C := RX1) (T := TX1) (N := 5) ok (by first | assumption | exact ws_s | exact hT _ (by assumption) | (rw [ws_n (by assumption)]; assumption)) rfl in_X1 0 (by decide) q122 (Or.inl rfl) (by rfl) dX1_matching_6 ?_
    refine Z.callF (ci := 6) (q := (RJ2, TJ2, 3)) (C := RJ2) ok (alistSize_ct hl) hlo rfl rfl q143 ⟨q145, q144, q150, q148, q146⟩ q149 (Or.inl q147) q19 q151 nkF_List_size rfl (by decide) (by first | exact Nat.le_of_ble_eq_true rfl | simp [Value.category, cat_rf]) (Nat.le_refl _) (Nat.le_refl _) dX1_matching_9 rfl ZX.no (fun v w1 hr => ?_)
    obtain ⟨rfl, rfl⟩ := hr
    refine Z.icmp_ge (tgt := 65) ok dX1_matching_14 (by decide) (fun _ => ?_) (fun hc => absurd (nI_le (by omega) (by omega)) hc)
    refine Z.iload_n ok dX1_matching_65 rfl ?_
    refine Z.iret ok hQ (by first | rfl | exact bI_nar _) dX1_matching_66 ?_
    exact ⟨by rw [show j = nq S by omega], rfl⟩
  | n + 1, j, l3, hj => by
    have hA0 := hA
    obtain ⟨ha, hd, hl, hlen, hqs⟩ := hA
    have hn2 := hI.1.2
    have hn : nmOk S := fun k hk => hI.2.2.2.1 k hk
    obtain ⟨fsl, hlo⟩ := hl.obj
    have hjl : j < qs.length := by omega
    have hgj := List.getElem?_eq_getElem hjl
    obtain ⟨ps, hqj⟩ := hqs j _ hgj
    obtain ⟨l, hqo, -⟩ := id hqj
    refine Z.iload_n ok dX1_matching_4 rfl ?_
    refine Z.aload_n ok dX1_matching_5 rfl (by first | exact isRf.r _ | exact isRf.n | exact isRf.v _ | assumption) ?_
    refine Z.get (ci := 0) (C := RX1) (T := TX1) (N := 5) ok (by first | assumption | exact ws_s | exact hT _ (by assumption) | (rw [ws_n (by assumption)]; assumption)) rfl in_X1 0 (by decide) q122 (Or.inl rfl) (by rfl) dX1_matching_6 ?_
    refine Z.callF (ci := 6) (q := (RJ2, TJ2, 3)) (C := RJ2) ok (alistSize_ct hl) hlo rfl rfl q143 ⟨q145, q144, q150, q148, q146⟩ q149 (Or.inl q147) q19 q151 nkF_List_size rfl (by decide) (by first | exact Nat.le_of_ble_eq_true rfl | simp [Value.category, cat_rf]) (Nat.le_refl _) (Nat.le_refl _) dX1_matching_9 rfl ZX.no (fun v w1 hr => ?_)
    obtain ⟨rfl, rfl⟩ := hr
    refine Z.icmp_ge (tgt := 65) ok dX1_matching_14 (by decide) (fun hc => absurd hc (nI_ge (by omega) (by omega))) (fun _ => ?_)
    refine Z.aload_n ok dX1_matching_17 rfl (by first | exact isRf.r _ | exact isRf.n | exact isRf.v _ | assumption) ?_
    refine Z.get (ci := 0) (C := RX1) (T := TX1) (N := 5) ok (by first | assumption | exact ws_s | exact hT _ (by assumption) | (rw [ws_n (by assumption)]; assumption)) rfl in_X1 0 (by decide) q122 (Or.inl rfl) (by rfl) dX1_matching_18 ?_
    refine Z.iload_n ok dX1_matching_21 rfl ?_
    refine Z.callF (ci := 6) (q := (RJ2, TJ2, 3)) (C := RJ2) ok (alistGet_ct hl hgj (by omega)) hlo rfl rfl q153 ⟨q155, q154, q159, q157, q146⟩ q158 (Or.inl q156) q19 q160 nkF_List_get rfl (by decide) (by first | exact Nat.le_of_ble_eq_true rfl | simp [Value.category, cat_rf]) (Nat.le_refl _) (Nat.le_refl _) dX1_matching_22 rfl ZX.no (fun v w1 hr => ?_)
    obtain ⟨rfl, rfl⟩ := hr
    have nx : ∀ b : Bool, b = actB S j → Z g x 4 57 [some (.ref a), some (.int (foundS S j)), some (.int (nI j)), some (.ref qs[j])] [.int (if b then bitN j else 0), .int (foundS S j)] w 0 0 := by
      intro b hb
      subst hb
      refine Z.ior ok dX1_matching_57 ?_
      refine Z.istore_n (i := 1) ok dX1_matching_58 rfl (by decide) ?_
      refine Z.iinc ok dX1_matching_59 rfl rfl ?_
      refine Z.goto (tgt := 4) ok dX1_matching_62 (by decide) ?_
      have e3 : nI j + Int32.ofInt 1 = nI (j + 1) := nI_1 j
      have hk := mt_loop ok hQ hA0 hI n (j + 1) (some (.ref qs[j])) (by omega)
      rw [← e3] at hk
      exact hk
    refine Z.castS (ci := 2) (q := (RX3, TX3, 6)) ok hqo rfl rfl q171 dX1_matching_27 ?_
    refine Z.astore_n (i := 3) ok dX1_matching_30 rfl (by decide) (by first | exact isRf.r _ | exact isRf.n | exact isRf.v _ | assumption) ?_
    refine Z.iload_n ok dX1_matching_31 rfl ?_
    refine Z.aload_n ok dX1_matching_32 rfl (by first | exact isRf.r _ | exact isRf.n | exact isRf.v _ | assumption) ?_
    refine Z.get (ci := 2) (C := RX3) (T := TX3) (N := 6) ok hqo rfl in_X3 1 (by decide) q1022 (Or.inl rfl) (by rfl) dX1_matching_33 ?_
    by_cases h0 : S 4 j = 0
    · refine Z.if_ne (tgt := 56) ok dX1_matching_36 (by decide) (fun hc => absurd h0 hc) (fun _ => ?_)
      refine Z.aload_n ok dX1_matching_39 rfl (by first | exact isRf.r _ | exact isRf.n | exact isRf.v _ | assumption) ?_
      refine Z.aload_n ok dX1_matching_40 rfl (by first | exact isRf.r _ | exact isRf.n | exact isRf.v _ | assumption) ?_
      refine Z.get (ci := 0) (C := RX1) (T := TX1) (N := 5) ok (by first | assumption | exact ws_s | exact hT _ (by assumption) | (rw [ws_n (by assumption)]; assumption)) rfl in_X1 1 (by decide) q123 (Or.inl rfl) (by rfl) dX1_matching_41 ?_
      refine Z.callV (ci := 2) (q := (RX3, TX3, 6)) (C := RX3) ok (qSat_ct hqj (by omega) hd hn) hqo rfl rfl q172 q173 (Or.inl q174) q27 q175 nk_X3_isSatisfied rfl (by decide) (by first | exact Nat.le_of_ble_eq_true rfl | simp [Value.category, cat_rf]) (Nat.le_refl _) (Nat.le_refl _) dX1_matching_44 rfl ZX.no (fun v w1 hr => ?_)
      obtain ⟨rfl, rfl⟩ := hr
      have ea : actB S j = doesB S j := by unfold actB; rw [decide_eq_true h0, Bool.true_and]
      by_cases hb : bI (doesB S j) = 0
      · refine Z.if_eq (tgt := 56) ok dX1_matching_47 (by decide) (fun _ => ?_) (fun hc => absurd hb hc)
        refine Z.iconst_0 ok dX1_matching_56 ?_
        exact nx false (by rw [ea, bI_0.mp hb])
      · refine Z.if_eq (tgt := 56) ok dX1_matching_47 (by decide) (fun hc => absurd hc hb) (fun _ => ?_)
        refine Z.iconst_1 ok dX1_matching_50 ?_
        refine Z.iload_n ok dX1_matching_51 rfl ?_
        refine Z.ishl ok dX1_matching_52 rfl ?_
        refine Z.goto (tgt := 57) ok dX1_matching_53 (by decide) ?_
        exact nx true (by rw [ea, bI_n0.mp hb])
    · refine Z.if_ne (tgt := 56) ok dX1_matching_36 (by decide) (fun _ => ?_) (fun hc => absurd hc h0)
      refine Z.iconst_0 ok dX1_matching_56 ?_
      exact nx false (by unfold actB; rw [decide_eq_false h0]; rfl)
theorem matching_ctA {a lq d mm li : Nat} {qs : List Nat} (hA : isAb g w a S lq d mm li qs) (hI : InvA S) : Ct g yX1_matching cX1_matching 4 (some .int) 7 0 0 [.ref a] w (PW (rI (foundS S (nq S))) w) noX := by
  refine Ct.of RX1 "matching" ⟨rfl, rfl⟩ (by decide +kernel) (by simp [Value.category] <;> exact cat_rf _) (Nat.le_of_ble_eq_true rfl) (fun x ok hQ hN => ?_)
  show Z g x 4 0 [some (.ref a), none, none, none] [] w 0 0
  refine Z.iconst_0 ok dX1_matching_0 ?_
  refine Z.istore_n (i := 1) ok dX1_matching_1 rfl (by decide) ?_
  refine Z.iconst_0 ok dX1_matching_2 ?_
  refine Z.istore_n (i := 2) ok dX1_matching_3 rfl (by decide) ?_
  exact mt_loop ok hQ hA hI (nq S) 0 _ (by omega)
theorem ws_loop {x : Cx} {a lq d mm li : Nat} {qs : List Nat} {z : Int32} (ok : OK g x RX1 cX1_withSize 4 7 (some .int)) (hQ : EndQ g x (PW (rI (nI (withS S z (nq S)))) w) noX) (hA : isAb g w a S lq d mm li qs) (hI : InvA S) : ∀ (n j : Nat), j + n = nq S → Z g x 4 4 [some (.ref a), some (.int z), some (.int (nI (withS S z j))), some (.int (nI j))] [] w 0 0
  | 0, j, hj => by
    obtain ⟨ha, hd, hl, hlen, hqs⟩ := hA
    have hn2 := hI.1.2
    obtain ⟨fsl, hlo⟩ := hl.obj
    refine Z.iload_n ok dX1_withSize_4 rfl ?_
    refine Z.aload_n ok dX1_withSize_5 rfl (by first | exact isRf.r _ | exact isRf.n | exact isRf.v _ | assumption) ?_
    refine Z.get (ci := 0) (C := RX1) (T := TX1) (N := 5) ok (by first | assumption | exact ws_s | exact hT _ (by assumption) | (rw [ws_n (by assumption)]; assumption)) rfl in_X1 0 (by decide) q122 (Or.inl rfl) (by rfl) dX1_withSize_6 ?_
    refine Z.callF (ci := 6) (q := (RJ2, TJ2, 3)) (C := RJ2) ok (alistSize_ct hl) hlo rfl rfl q143 ⟨q145, q144, q150, q148, q146⟩ q149 (Or.inl q147) q19 q151 nkF_List_size rfl (by decide) (by first | exact Nat.le_of_ble_eq_true rfl | simp [Value.category, cat_rf]) (Nat.le_refl _) (Nat.le_refl _) dX1_withSize_9 rfl ZX.no (fun v w1 hr => ?_)
    obtain ⟨rfl, rfl⟩ := hr
    refine Z.icmp_ge (tgt := 70) ok dX1_withSize_14 (by decide) (fun _ => ?_) (fun hc => absurd (nI_le (by omega) (by omega)) hc)
    refine Z.iload_n ok dX1_withSize_70 rfl ?_
    refine Z.iret ok hQ (by first | rfl | exact bI_nar _) dX1_withSize_71 ?_
    exact ⟨by rw [show j = nq S by omega], rfl⟩
  | n + 1, j, hj => by
    have hA0 := hA
    obtain ⟨ha, hd, hl, hlen, hqs⟩ := hA
    have hn2 := hI.1.2
    obtain ⟨fsl, hlo⟩ := hl.obj
    have hjl : j < qs.length := by omega
    have hgj := List.getElem?_eq_getElem hjl
    obtain ⟨ps, hqj⟩ := hqs j _ hgj
    obtain ⟨l, hqo, -⟩ := id hqj
    refine Z.iload_n ok dX1_withSize_4 rfl ?_
    refine Z.aload_n ok dX1_withSize_5 rfl (by first | exact isRf.r _ | exact isRf.n | exact isRf.v _ | assumption) ?_
    refine Z.get (ci := 0) (C := RX1) (T := TX1) (N := 5) ok (by first | assumption | exact ws_s | exact hT _ (by assumption) | (rw [ws_n (by assumption)]; assumption)) rfl in_X1 0 (by decide) q122 (Or.inl rfl) (by rfl) dX1_withSize_6 ?_
    refine Z.callF (ci := 6) (q := (RJ2, TJ2, 3)) (C := RJ2) ok (alistSize_ct hl) hlo rfl rfl q143 ⟨q145, q144, q150, q148, q146⟩ q149 (Or.inl q147) q19 q151 nkF_List_size rfl (by decide) (by first | exact Nat.le_of_ble_eq_true rfl | simp [Value.category, cat_rf]) (Nat.le_refl _) (Nat.le_refl _) dX1_withSize_9 rfl ZX.no (fun v w1 hr => ?_)
    obtain ⟨rfl, rfl⟩ := hr
    refine Z.icmp_ge (tgt := 70) ok dX1_withSize_14 (by decide) (fun hc => absurd hc (nI_ge (by omega) (by omega))) (fun _ => ?_)
    refine Z.iload_n ok dX1_withSize_17 rfl ?_
    refine Z.aload_n ok dX1_withSize_18 rfl (by first | exact isRf.r _ | exact isRf.n | exact isRf.v _ | assumption) ?_
    refine Z.get (ci := 0) (C := RX1) (T := TX1) (N := 5) ok (by first | assumption | exact ws_s | exact hT _ (by assumption) | (rw [ws_n (by assumption)]; assumption)) rfl in_X1 0 (by decide) q122 (Or.inl rfl) (by rfl) dX1_withSize_19 ?_
    refine Z.iload_n ok dX1_withSize_22 rfl ?_
    refine Z.callF (ci := 6) (q := (RJ2, TJ2, 3)) (C := RJ2) ok (alistGet_ct hl hgj (by omega)) hlo rfl rfl q153 ⟨q155, q154, q159, q157, q146⟩ q158 (Or.inl q156) q19 q160 nkF_List_get rfl (by decide) (by first | exact Nat.le_of_ble_eq_true rfl | simp [Value.category, cat_rf]) (Nat.le_refl _) (Nat.le_refl _) dX1_withSize_23 rfl ZX.no (fun v w1 hr => ?_)
    obtain ⟨rfl, rfl⟩ := hr
    have e3 : nI j + Int32.ofInt 1 = nI (j + 1) := nI_1 j
    have hk := ws_loop ok hQ hA0 hI n (j + 1) (by omega)
    rw [← e3] at hk
    have no : ¬ (S 4 j = 0 ∧ nI (sizeN S j) = z) → Z g x 4 61 [some (.ref a), some (.int z), some (.int (nI (withS S z j))), some (.int (nI j))] [.int (nI (withS S z j))] w 0 0 := by
      intro hc
      refine Z.iconst_0 ok dX1_withSize_61 ?_
      refine Z.iadd ok dX1_withSize_62 ?_
      refine Z.istore_n (i := 2) ok dX1_withSize_63 rfl (by decide) ?_
      refine Z.iinc ok dX1_withSize_64 rfl rfl ?_
      refine Z.goto (tgt := 4) ok dX1_withSize_67 (by decide) ?_
      have e4 : nI (withS S z (j + 1)) = nI (withS S z j) + 0 := by rw [withS, if_neg hc]; simp
      rw [e4] at hk
      exact hk
    refine Z.castS (ci := 2) (q := (RX3, TX3, 6)) ok hqo rfl rfl q171 dX1_withSize_28 ?_
    refine Z.get (ci := 2) (C := RX3) (T := TX3) (N := 6) ok hqo rfl in_X3 1 (by decide) q1022 (Or.inl rfl) (by rfl) dX1_withSize_31 ?_
    by_cases h0 : S 4 j = 0
    · refine Z.if_ne (tgt := 61) ok dX1_withSize_34 (by decide) (fun hc => absurd h0 hc) (fun _ => ?_)
      refine Z.aload_n ok dX1_withSize_37 rfl (by first | exact isRf.r _ | exact isRf.n | exact isRf.v _ | assumption) ?_
      refine Z.get (ci := 0) (C := RX1) (T := TX1) (N := 5) ok (by first | assumption | exact ws_s | exact hT _ (by assumption) | (rw [ws_n (by assumption)]; assumption)) rfl in_X1 0 (by decide) q122 (Or.inl rfl) (by rfl) dX1_withSize_38 ?_
      refine Z.iload_n ok dX1_withSize_41 rfl ?_
      refine Z.callF (ci := 6) (q := (RJ2, TJ2, 3)) (C := RJ2) ok (alistGet_ct hl hgj (by omega)) hlo rfl rfl q153 ⟨q155, q154, q159, q157, q146⟩ q158 (Or.inl q156) q19 q160 nkF_List_get rfl (by decide) (by first | exact Nat.le_of_ble_eq_true rfl | simp [Value.category, cat_rf]) (Nat.le_refl _) (Nat.le_refl _) dX1_withSize_42 rfl ZX.no (fun v w1 hr => ?_)
      obtain ⟨rfl, rfl⟩ := hr
      refine Z.castS (ci := 2) (q := (RX3, TX3, 6)) ok hqo rfl rfl q171 dX1_withSize_47 ?_
      refine Z.callV (ci := 2) (q := (RX3, TX3, 6)) (C := RX3) ok (qSize_ct hqj) hqo rfl rfl q962 q963 (Or.inl q964) q27 q965 nk_X3_size rfl (by decide) (by first | exact Nat.le_of_ble_eq_true rfl | simp [Value.category, cat_rf]) (Nat.le_refl _) (Nat.le_refl _) dX1_withSize_50 rfl ZX.no (fun v w1 hr => ?_)
      obtain ⟨rfl, rfl⟩ := hr
      refine Z.iload_n ok dX1_withSize_53 rfl ?_
      by_cases hz : nI (sizeN S j) = z
      · refine Z.icmp_ne (tgt := 61) ok dX1_withSize_54 (by decide) (fun hc => absurd hz hc) (fun _ => ?_)
        refine Z.iconst_1 ok dX1_withSize_57 ?_
        refine Z.goto (tgt := 62) ok dX1_withSize_58 (by decide) ?_
        refine Z.iadd ok dX1_withSize_62 ?_
        refine Z.istore_n (i := 2) ok dX1_withSize_63 rfl (by decide) ?_
        refine Z.iinc ok dX1_withSize_64 rfl rfl ?_
        refine Z.goto (tgt := 4) ok dX1_withSize_67 (by decide) ?_
        have e4 : nI (withS S z (j + 1)) = nI (withS S z j) + 1 := by rw [withS, if_pos ⟨h0, hz⟩, nI_1]
        rw [e4] at hk
        exact hk
      · refine Z.icmp_ne (tgt := 61) ok dX1_withSize_54 (by decide) (fun _ => ?_) (fun hc => absurd hc hz)
        exact no (fun c => hz c.2)
    · refine Z.if_ne (tgt := 61) ok dX1_withSize_34 (by decide) (fun _ => ?_) (fun hc => absurd hc h0)
      exact no (fun c => h0 c.1)
theorem withSize_ctA {a lq d mm li : Nat} {qs : List Nat} (hA : isAb g w a S lq d mm li qs) (hI : InvA S) (z : Int32) : Ct g yX1_withSize cX1_withSize 4 (some .int) 7 0 0 [.ref a, .int z] w (PW (rI (nI (withS S z (nq S)))) w) noX := by
  refine Ct.of RX1 "withSize" ⟨rfl, rfl⟩ (by decide +kernel) (by simp [Value.category] <;> exact cat_rf _) (Nat.le_of_ble_eq_true rfl) (fun x ok hQ hN => ?_)
  show Z g x 4 0 [some (.ref a), some (.int z), none, none] [] w 0 0
  refine Z.iconst_0 ok dX1_withSize_0 ?_
  refine Z.istore_n (i := 2) ok dX1_withSize_1 rfl (by decide) ?_
  refine Z.iconst_0 ok dX1_withSize_2 ?_
  refine Z.istore_n (i := 3) ok dX1_withSize_3 rfl (by decide) ?_
  exact ws_loop ok hQ hA hI (nq S) 0 (by omega)
end CLS2
