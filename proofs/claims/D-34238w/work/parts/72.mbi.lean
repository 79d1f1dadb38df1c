/-! ===== ALERTINDEX: matchingByIndex ===== -/
section MBI
variable {g : Gx} {w w' w0 : Wd} {S : St}
theorem isBs.prd {a lq d mm li : Nat} {qs : List Nat} {LQ P LT : Nat → Nat} {X : List Nat} (h : isBs g w a S lq d mm li qs LQ P LT X) {i : Nat} (hv : vP S i) : isPrd g w S i (P i) := by
  obtain ⟨fd, ts, k1, k2, k3, k4, k5⟩ := h.2.2.2.2.2.2.2.1 i hv
  exact ⟨LT i, ts, fd, k1, k2, k3, k4, k5⟩
def mbB (S : St) (i : Nat) : Int32 := if S 4 (i / 3) = 0 ∧ prodB S i = true then bitN (i / 3) else 0
theorem mb3 {x : Cx} {a lq d mm li : Nat} {qs : List Nat} {LQ P LT : Nat → Nat} {X : List Nat} {E : List Dt} {IX : IXt} {F : Nat → Int32} {Post : Option Value → Wd → Prop} (ok : OK g x RX1 cX1_matchingByIndex 5 9 (some .int)) (hQ : EndQ g x Post noX) (hI : InvA S) (h : FM g w0 w a S lq d mm li qs LQ P LT X E IX F) (hX : X.length < 1000) (hF : ∀ i, vP S i → F i = nI (trueN S i (nt S i))) (hp : Post (rI (orL (X.map (mbB S)))) w) {kc ks : Nat} : ∀ (f k : Nat) (l3 l4 : Option Value), k + f = X.length → Z g x 5 77 [some (.ref a), some (.int (orL ((X.take k).map (mbB S)))), some (.int (nI k)), l3, l4] [] w kc ks := by
  intro f
  obtain ⟨hB, -, hFd, -⟩ := id h
  have hL := hB.2.2.2.2.2.2.2.2.2.2.2.2.2
  have ha := hB.1
  have hd := hB.2.1
  have hlq := hB.2.2.1
  have hlen := hB.2.2.2.1
  have hn2 := hI.1.2
  obtain ⟨fl, hlo⟩ := hL.obj
  obtain ⟨fq, hqo⟩ := hlq.obj
  have hn : nmOk S := fun k hk => hI.2.2.2.1 k hk
  induction f with
  | zero =>
    intro k l3 l4 hk
    refine Z.iload_n ok dX1_matchingByIndex_77 rfl ?_
    refine Z.aload_n ok dX1_matchingByIndex_78 rfl (by first | exact isRf.r _ | exact isRf.n | exact isRf.v _ | assumption) ?_
    refine Z.get (ci := 0) (C := RX1) (T := TX1) (N := 5) ok ha rfl in_X1 3 (by decide) q125 (Or.inl rfl) (by rfl) dX1_matchingByIndex_79 ?_
    refine Z.callF (ci := 6) (q := (RJ2, TJ2, 3)) (C := RJ2) ok (alistSize_ct hL) hlo rfl rfl q143 ⟨q145, q144, q150, q148, q146⟩ q149 (Or.inl q147) q19 q151 nkF_List_size rfl (by decide) (by first | exact Nat.le_of_ble_eq_true rfl | simp [Value.category, cat_rf]) (Nat.le_refl _) (Nat.le_refl _) dX1_matchingByIndex_82 rfl ZX.no (fun v w1 hr => ?_)
    obtain ⟨rfl, rfl⟩ := hr
    rw [List.length_map]
    refine Z.icmp_ge (tgt := 179) ok dX1_matchingByIndex_87 (by decide) (fun _ => ?_) (fun hc => absurd (nI_le (by omega) (by omega)) hc)
    refine Z.iload_n ok dX1_matchingByIndex_179 rfl ?_
    refine Z.iret ok hQ (by first | rfl | exact bI_nar _) dX1_matchingByIndex_180 ?_
    rw [List.take_of_length_le (by omega)]
    exact hp
  | succ f ih =>
    intro k l3 l4 hk
    have hkl : k < X.length := by omega
    have hgk := List.getElem?_eq_getElem hkl
    generalize X[k] = i at hgk
    have hv : vP S i := (hB.2.2.2.2.2.2.2.2.2.2.2.2.1 i).mp (List.mem_of_getElem? hgk)
    have hpi := hFd i hv
    have hP := hB.prd hv
    have hiq : i / 3 < qs.length := by rw [hlen]; exact hv.1
    have hgq := List.getElem?_eq_getElem hiq
    generalize qs[i / 3] = q at hgq
    have hqi := hB.2.2.2.2.2.1 _ _ hgq
    have hv1 := hv.1
    have e3 : nI k + Int32.ofInt 1 = nI (k + 1) := nI_1 k
    have nx : ∀ b : Bool, b = decide (S 4 (i / 3) = 0 ∧ prodB S i = true) → Z g x 5 153 [some (.ref a), some (.int (orL ((X.take k).map (mbB S)))), some (.int (nI k)), some (.ref (P i)), l4] [.int (bI b)] w kc ks := by
      intro b hb
      have hz := ih (k + 1) (some (.ref (P i))) (some (.int (bI b))) (by omega)
      rw [← e3, List.take_succ, hgk, Option.toList_some, List.map_append, List.map_cons, List.map_nil, orL_snoc] at hz
      cases b with
      | true =>
        have e : mbB S i = bitN (i / 3) := if_pos (of_decide_eq_true hb.symm)
        rw [e] at hz
        refine Z.istore ok dX1_matchingByIndex_153 (by decide) ?_
        refine Z.iload_n ok dX1_matchingByIndex_155 rfl ?_
        refine Z.iload ok dX1_matchingByIndex_156 rfl ?_
        refine Z.if_eq (tgt := 170) ok dX1_matchingByIndex_158 (by decide) (fun hc => absurd hc (by decide)) (fun _ => ?_)
        refine Z.iconst_1 ok dX1_matchingByIndex_161 ?_
        refine Z.aload_n ok dX1_matchingByIndex_162 rfl (by first | exact isRf.r _ | exact isRf.n | exact isRf.v _ | assumption) ?_
        refine Z.get (ci := 3) (C := RX4) (T := TX4) (N := 3) ok hpi rfl in_X4 1 (by decide) q1136 (Or.inl rfl) (by rfl) dX1_matchingByIndex_163 ?_
        refine Z.ishl ok dX1_matchingByIndex_166 rfl ?_
        refine Z.goto (tgt := 171) ok dX1_matchingByIndex_167 (by decide) ?_
        refine Z.ior ok dX1_matchingByIndex_171 ?_
        refine Z.istore_n (i := 1) ok dX1_matchingByIndex_172 rfl (by decide) ?_
        refine Z.iinc ok dX1_matchingByIndex_173 rfl rfl ?_
        refine Z.goto (tgt := 77) ok dX1_matchingByIndex_176 (by decide) ?_
        exact hz
      | false =>
        have e : mbB S i = 0 := if_neg (of_decide_eq_false hb.symm)
        rw [e] at hz
        refine Z.istore ok dX1_matchingByIndex_153 (by decide) ?_
        refine Z.iload_n ok dX1_matchingByIndex_155 rfl ?_
        refine Z.iload ok dX1_matchingByIndex_156 rfl ?_
        refine Z.if_eq (tgt := 170) ok dX1_matchingByIndex_158 (by decide) (fun _ => ?_) (fun hc => absurd (by decide) hc)
        refine Z.iconst_0 ok dX1_matchingByIndex_170 ?_
        refine Z.ior ok dX1_matchingByIndex_171 ?_
        refine Z.istore_n (i := 1) ok dX1_matchingByIndex_172 rfl (by decide) ?_
        refine Z.iinc ok dX1_matchingByIndex_173 rfl rfl ?_
        refine Z.goto (tgt := 77) ok dX1_matchingByIndex_176 (by decide) ?_
        exact hz
    have no : ¬ (S 4 (i / 3) = 0 ∧ prodB S i = true) → Z g x 5 152 [some (.ref a), some (.int (orL ((X.take k).map (mbB S)))), some (.int (nI k)), some (.ref (P i)), l4] [] w kc ks := by
      intro hc
      refine Z.iconst_0 ok dX1_matchingByIndex_152 ?_
      exact nx false (decide_eq_false hc).symm
    refine Z.iload_n ok dX1_matchingByIndex_77 rfl ?_
    refine Z.aload_n ok dX1_matchingByIndex_78 rfl (by first | exact isRf.r _ | exact isRf.n | exact isRf.v _ | assumption) ?_
    refine Z.get (ci := 0) (C := RX1) (T := TX1) (N := 5) ok ha rfl in_X1 3 (by decide) q125 (Or.inl rfl) (by rfl) dX1_matchingByIndex_79 ?_
    refine Z.callF (ci := 6) (q := (RJ2, TJ2, 3)) (C := RJ2) ok (alistSize_ct hL) hlo rfl rfl q143 ⟨q145, q144, q150, q148, q146⟩ q149 (Or.inl q147) q19 q151 nkF_List_size rfl (by decide) (by first | exact Nat.le_of_ble_eq_true rfl | simp [Value.category, cat_rf]) (Nat.le_refl _) (Nat.le_refl _) dX1_matchingByIndex_82 rfl ZX.no (fun v w1 hr => ?_)
    obtain ⟨rfl, rfl⟩ := hr
    rw [List.length_map]
    refine Z.icmp_ge (tgt := 179) ok dX1_matchingByIndex_87 (by decide) (fun hc => absurd hc (nI_ge (by omega) (by omega))) (fun _ => ?_)
    refine Z.aload_n ok dX1_matchingByIndex_90 rfl (by first | exact isRf.r _ | exact isRf.n | exact isRf.v _ | assumption) ?_
    refine Z.get (ci := 0) (C := RX1) (T := TX1) (N := 5) ok ha rfl in_X1 3 (by decide) q125 (Or.inl rfl) (by rfl) dX1_matchingByIndex_91 ?_
    refine Z.iload_n ok dX1_matchingByIndex_94 rfl ?_
    refine Z.callF (ci := 6) (q := (RJ2, TJ2, 3)) (C := RJ2) ok (alistGet_ct (y := P i) hL (by rw [List.getElem?_map, hgk]; rfl) (by rw [List.length_map]; omega)) hlo rfl rfl q153 ⟨q155, q154, q159, q157, q146⟩ q158 (Or.inl q156) q19 q160 nkF_List_get rfl (by decide) (by first | exact Nat.le_of_ble_eq_true rfl | simp [Value.category, cat_rf]) (Nat.le_refl _) (Nat.le_refl _) dX1_matchingByIndex_95 rfl ZX.no (fun v w1 hr => ?_)
    obtain ⟨rfl, rfl⟩ := hr
    refine Z.castS (ci := 3) (q := (RX4, TX4, 3)) ok hpi rfl rfl q251 dX1_matchingByIndex_100 ?_
    refine Z.astore_n (i := 3) ok dX1_matchingByIndex_103 rfl (by decide) (by first | exact isRf.r _ | exact isRf.n | exact isRf.v _ | assumption) ?_
    refine Z.aload_n ok dX1_matchingByIndex_104 rfl (by first | exact isRf.r _ | exact isRf.n | exact isRf.v _ | assumption) ?_
    refine Z.get (ci := 0) (C := RX1) (T := TX1) (N := 5) ok ha rfl in_X1 0 (by decide) q122 (Or.inl rfl) (by rfl) dX1_matchingByIndex_105 ?_
    refine Z.aload_n ok dX1_matchingByIndex_108 rfl (by first | exact isRf.r _ | exact isRf.n | exact isRf.v _ | assumption) ?_
    refine Z.get (ci := 3) (C := RX4) (T := TX4) (N := 3) ok hpi rfl in_X4 1 (by decide) q1136 (Or.inl rfl) (by rfl) dX1_matchingByIndex_109 ?_
    refine Z.callF (ci := 6) (q := (RJ2, TJ2, 3)) (C := RJ2) ok (alistGet_ct (j := i / 3) (y := q) hlq hgq (by omega)) hqo rfl rfl q153 ⟨q155, q154, q159, q157, q146⟩ q158 (Or.inl q156) q19 q160 nkF_List_get rfl (by decide) (by first | exact Nat.le_of_ble_eq_true rfl | simp [Value.category, cat_rf]) (Nat.le_refl _) (Nat.le_refl _) dX1_matchingByIndex_112 rfl ZX.no (fun v w1 hr => ?_)
    obtain ⟨rfl, rfl⟩ := hr
    refine Z.castS (ci := 2) (q := (RX3, TX3, 6)) ok hqi rfl rfl q171 dX1_matchingByIndex_117 ?_
    refine Z.get (ci := 2) (C := RX3) (T := TX3) (N := 6) ok hqi rfl in_X3 1 (by decide) q1022 (Or.inl rfl) (by rfl) dX1_matchingByIndex_120 ?_
    by_cases h0 : S 4 (i / 3) = 0
    · refine Z.if_ne (tgt := 152) ok dX1_matchingByIndex_123 (by decide) (fun hc => absurd h0 hc) (fun _ => ?_)
      refine Z.aload_n ok dX1_matchingByIndex_126 rfl (by first | exact isRf.r _ | exact isRf.n | exact isRf.v _ | assumption) ?_
      refine Z.get (ci := 3) (C := RX4) (T := TX4) (N := 3) ok hpi rfl in_X4 2 (by decide) q1137 (Or.inl rfl) (by rfl) dX1_matchingByIndex_127 ?_
      refine Z.aload_n ok dX1_matchingByIndex_130 rfl (by first | exact isRf.r _ | exact isRf.n | exact isRf.v _ | assumption) ?_
      refine Z.callV (ci := 3) (q := (RX4, TX4, 3)) (C := RX4) ok (prdSize_ct hP) hpi rfl rfl q937 q938 (Or.inl q939) q37 q940 nk_X4_size rfl (by decide) (by first | exact Nat.le_of_ble_eq_true rfl | simp [Value.category, cat_rf]) (Nat.le_refl _) (Nat.le_refl _) dX1_matchingByIndex_131 rfl ZX.no (fun v w1 hr => ?_)
      obtain ⟨rfl, rfl⟩ := hr
      rw [hF i hv]
      have hb := prodB_found S i
      have hle := trueN_le S i (nt S i)
      have h4 := plain_le4 S i (nt S i)
      have h44 : nt S i ≤ 4 := by obtain ⟨_, _, _, _, _, _, h, _⟩ := hP; exact h
      by_cases hz : trueN S i (nt S i) = plainN S i (nt S i)
      · refine Z.icmp_ne (tgt := 152) ok dX1_matchingByIndex_134 (by decide) (fun hc => absurd (by rw [hz]) hc) (fun _ => ?_)
        rw [decide_eq_true hz, Bool.true_and] at hb
        refine Z.aload_n ok dX1_matchingByIndex_137 rfl (by first | exact isRf.r _ | exact isRf.n | exact isRf.v _ | assumption) ?_
        refine Z.aload_n ok dX1_matchingByIndex_138 rfl (by first | exact isRf.r _ | exact isRf.n | exact isRf.v _ | assumption) ?_
        refine Z.get (ci := 0) (C := RX1) (T := TX1) (N := 5) ok ha rfl in_X1 1 (by decide) q123 (Or.inl rfl) (by rfl) dX1_matchingByIndex_139 ?_
        refine Z.callV (ci := 3) (q := (RX4, TX4, 3)) (C := RX4) ok (prdOpen_ct hP (by omega) hd hn) hpi rfl rfl q954 q955 (Or.inl q956) q37 q957 nk_X4_isOpen rfl (by decide) (by first | exact Nat.le_of_ble_eq_true rfl | simp [Value.category, cat_rf]) (Nat.le_refl _) (Nat.le_refl _) dX1_matchingByIndex_142 rfl ZX.no (fun v w1 hr => ?_)
        obtain ⟨rfl, rfl⟩ := hr
        rw [hb]
        cases hpb : prodB S i with
        | true =>
          refine Z.if_eq (tgt := 152) ok dX1_matchingByIndex_145 (by decide) (fun hc => absurd hc (by decide)) (fun _ => ?_)
          refine Z.iconst_1 ok dX1_matchingByIndex_148 ?_
          refine Z.goto (tgt := 153) ok dX1_matchingByIndex_149 (by decide) ?_
          exact nx true (decide_eq_true ⟨h0, hpb⟩).symm
        | false =>
          refine Z.if_eq (tgt := 152) ok dX1_matchingByIndex_145 (by decide) (fun _ => ?_) (fun hc => absurd (by decide) hc)
          exact no (fun z => by rw [hpb] at z; cases z.2)
      · refine Z.icmp_ne (tgt := 152) ok dX1_matchingByIndex_134 (by decide) (fun _ => ?_) (fun hc => absurd hc (fun z => hz ((nI_eq (by omega) (by omega)).mp z)))
        rw [decide_eq_false hz, Bool.false_and] at hb
        exact no (fun z => by rw [← hb] at z; cases z.2)
    · refine Z.if_ne (tgt := 152) ok dX1_matchingByIndex_123 (by decide) (fun _ => ?_) (fun hc => absurd hc h0)
      exact no (fun z => h0 z.1)
theorem mb2 {x : Cx} {a lq d mm li : Nat} {qs : List Nat} {LQ P LT : Nat → Nat} {X : List Nat} {E : List Dt} {IX : IXt} {F : Nat → Int32} {Post : Option Value → Wd → Prop} (ok : OK g x RX1 cX1_matchingByIndex 5 9 (some .int)) (hQ : EndQ g x Post noX) (hI : InvA S) (hR : relIX S IX) (hX : X.length < 1000) (hE : E.length < 100000) (hV : ∀ n a b j, j ∈ IX n a b → vP S j) (hln : ∀ n a b, (IX n a b).length < 100000) (hF : ∀ i, vP S i → F i = 0) (hp : ∀ w F, FM g w0 w a S lq d mm li qs LQ P LT X E IX F → Post (rI (orL (X.map (mbB S)))) w) {l2 l3 l4 : Option Value} : ∀ (f n : Nat) (w : Wd), n + f = 6 → FM g w0 w a S lq d mm li qs LQ P LT X E IX (fun i => F i + nI (nS S IX i n)) → Z g x 5 40 [some (.ref a), some (.int (nI n)), l2, l3, l4] [] w (f * 28) (f * 280) := by
  intro f
  induction f with
  | zero =>
    intro n w hn h
    have en : n = 6 := by omega
    subst en
    have hB := h.1
    refine Z.iload_n ok dX1_matchingByIndex_40 rfl ?_
    refine Z.bipush (v := 6) ok dX1_matchingByIndex_41 (by decide) ?_
    refine Z.icmp_ge (tgt := 73) ok dX1_matchingByIndex_43 (by decide) (fun _ => ?_) (fun hc => absurd (by decide) hc)
    refine Z.iconst_0 ok dX1_matchingByIndex_73 ?_
    refine Z.istore_n (i := 1) ok dX1_matchingByIndex_74 rfl (by decide) ?_
    refine Z.iconst_0 ok dX1_matchingByIndex_75 ?_
    refine Z.istore_n (i := 2) ok dX1_matchingByIndex_76 rfl (by decide) ?_
    refine mb3 ok hQ hI h hX (fun i hv => ?_) (hp w _ h) X.length 0 _ _ (Nat.zero_add _)
    have h4 : nt S i ≤ 4 := by obtain ⟨_, _, _, _, _, _, h, _⟩ := hB.prd hv; exact h
    have hv1 := hv.1
    have hn2 := hI.1.2
    rw [hF i hv, nS_true hI hR (by omega) h4]
    exact Int32.zero_add _
  | succ f ih =>
    intro n w hn h
    have hB := h.1
    have ha := hB.1
    have hd := hB.2.1
    have e3 : nI n + Int32.ofInt 1 = nI (n + 1) := nI_1 n
    refine Z.iload_n ok dX1_matchingByIndex_40 rfl ?_
    refine Z.bipush (v := 6) ok dX1_matchingByIndex_41 (by decide) ?_
    refine Z.icmp_ge (tgt := 73) ok dX1_matchingByIndex_43 (by decide) (fun hc => absurd hc (nI_ge (show n < 6 by omega) (by decide))) (fun _ => ?_)
    refine Z.aload_n ok dX1_matchingByIndex_46 rfl (by first | exact isRf.r _ | exact isRf.n | exact isRf.v _ | assumption) ?_
    refine Z.get (ci := 0) (C := RX1) (T := TX1) (N := 5) ok ha rfl in_X1 1 (by decide) q123 (Or.inl rfl) (by rfl) dX1_matchingByIndex_47 ?_
    refine Z.iload_n ok dX1_matchingByIndex_50 rfl ?_
    refine Z.iald ok hd (vp_in_nI (by omega) (by decide)) dX1_matchingByIndex_51 ?_
    rw [nI_clamp (by omega)]
    refine Z.iconst_m1 ok dX1_matchingByIndex_52 ?_
    have nx : ∀ w, FM g w0 w a S lq d mm li qs LQ P LT X E IX (fun i => F i + nI (nS S IX i (n + 1))) → Z g x 5 67 [some (.ref a), some (.int (nI n)), l2, l3, l4] [] w (f * 28) (f * 280) := by
      intro w hw
      have hz := ih (n + 1) w (by omega) hw
      rw [← e3] at hz
      refine Z.iinc ok dX1_matchingByIndex_67 rfl rfl ?_
      refine Z.goto (tgt := 40) ok dX1_matchingByIndex_70 (by decide) ?_
      exact hz
    by_cases hm : S 3 n = -1
    · refine Z.icmp_eq (tgt := 67) ok dX1_matchingByIndex_53 (by decide) (fun _ => ?_) (fun hc => absurd hm hc)
      refine Z.room (kc' := f * 28) (ks' := f * 280) (by omega) (by omega) (nx w ?_)
      have e : (fun i => F i + nI (nS S IX i (n + 1))) = fun i => F i + nI (nS S IX i n) := by
        funext i
        rw [nS, if_pos hm]
        rfl
      rw [e]
      exact h
    · refine Z.icmp_eq (tgt := 67) ok dX1_matchingByIndex_53 (by decide) (fun hc => absurd hc hm) (fun _ => ?_)
      rcases hI.2.2.2.2.2.2.2 n (by omega) with z | ⟨v, hv, hvn⟩
      · exact absurd z hm
      · refine Z.aload_n ok dX1_matchingByIndex_56 rfl (by first | exact isRf.r _ | exact isRf.n | exact isRf.v _ | assumption) ?_
        refine Z.iload_n ok dX1_matchingByIndex_57 rfl ?_
        refine Z.aload_n ok dX1_matchingByIndex_58 rfl (by first | exact isRf.r _ | exact isRf.n | exact isRf.v _ | assumption) ?_
        refine Z.get (ci := 0) (C := RX1) (T := TX1) (N := 5) ok ha rfl in_X1 1 (by decide) q123 (Or.inl rfl) (by rfl) dX1_matchingByIndex_59 ?_
        refine Z.iload_n ok dX1_matchingByIndex_62 rfl ?_
        refine Z.iald ok hd (vp_in_nI (by omega) (by decide)) dX1_matchingByIndex_63 ?_
        rw [nI_clamp (by omega), hvn]
        refine Z.callV (kc' := (f*28)) (ks' := (f*280)) (ci := 0) (q := (RX1, TX1, 5)) (C := RX1) ok (count_ct (n := n) (v := v) (by omega) hv hE hV hln h) ha rfl rfl q252 q254 (Or.inl qs0) q16 q255 nk_X1_count rfl (by decide) (by first | exact Nat.le_of_ble_eq_true rfl | simp [Value.category, cat_rf]) (by omega) (by omega) dX1_matchingByIndex_64 rfl ZX.no (fun v w1 hr => ?_)
        obtain ⟨rfl, h1⟩ := hr
        refine nx w1 ?_
        have e : (fun i => F i + nI (nS S IX i (n + 1))) = fun i => F i + nI (nS S IX i n) + nI (cS IX n v i 7) := by
          funext i
          rw [nS, if_neg hm, hvn, nI_clamp (by omega), Int32.add_assoc, nI_add]
        rw [e]
        exact h1
theorem mb1 {x : Cx} {a lq d mm li : Nat} {qs : List Nat} {LQ P LT : Nat → Nat} {X : List Nat} {E : List Dt} {IX : IXt} (ok : OK g x RX1 cX1_matchingByIndex 5 9 (some .int)) (hX : X.length < 1000) {l2 l3 l4 : Option Value} {kc ks : Nat} (kont : ∀ w F l1, FM g w0 w a S lq d mm li qs LQ P LT X E IX F → (∀ i, vP S i → F i = 0) → Z g x 5 38 [some (.ref a), l1, l2, l3, l4] [] w kc ks) : ∀ (f k : Nat) (w : Wd) (F : Nat → Int32), k + f = X.length → FM g w0 w a S lq d mm li qs LQ P LT X E IX F → (∀ i, i ∈ X.take k → F i = 0) → Z g x 5 2 [some (.ref a), some (.int (nI k)), l2, l3, l4] [] w kc ks := by
  intro f
  induction f with
  | zero =>
    intro k w F hk h hF
    obtain ⟨hB, -, hFd, -⟩ := id h
    have hL := hB.2.2.2.2.2.2.2.2.2.2.2.2.2
    have ha := hB.1
    obtain ⟨fl, hlo⟩ := hL.obj
    refine Z.iload_n ok dX1_matchingByIndex_2 rfl ?_
    refine Z.aload_n ok dX1_matchingByIndex_3 rfl (by first | exact isRf.r _ | exact isRf.n | exact isRf.v _ | assumption) ?_
    refine Z.get (ci := 0) (C := RX1) (T := TX1) (N := 5) ok ha rfl in_X1 3 (by decide) q125 (Or.inl rfl) (by rfl) dX1_matchingByIndex_4 ?_
    refine Z.callF (ci := 6) (q := (RJ2, TJ2, 3)) (C := RJ2) ok (alistSize_ct hL) hlo rfl rfl q143 ⟨q145, q144, q150, q148, q146⟩ q149 (Or.inl q147) q19 q151 nkF_List_size rfl (by decide) (by first | exact Nat.le_of_ble_eq_true rfl | simp [Value.category, cat_rf]) (Nat.le_refl _) (Nat.le_refl _) dX1_matchingByIndex_7 rfl ZX.no (fun v w1 hr => ?_)
    obtain ⟨rfl, rfl⟩ := hr
    rw [List.length_map]
    refine Z.icmp_ge (tgt := 38) ok dX1_matchingByIndex_12 (by decide) (fun _ => ?_) (fun hc => absurd (nI_le (by omega) (by omega)) hc)
    refine kont w F _ h (fun i hv => hF i ?_)
    rw [List.take_of_length_le (by omega)]
    exact (hB.2.2.2.2.2.2.2.2.2.2.2.2.1 i).mpr hv
  | succ f ih =>
    intro k w F hk h hF
    obtain ⟨hB, -, hFd, -⟩ := id h
    have hL := hB.2.2.2.2.2.2.2.2.2.2.2.2.2
    have ha := hB.1
    obtain ⟨fl, hlo⟩ := hL.obj
    have hkl : k < X.length := by omega
    have hgk := List.getElem?_eq_getElem hkl
    generalize X[k] = i at hgk
    have hv : vP S i := (hB.2.2.2.2.2.2.2.2.2.2.2.2.1 i).mp (List.mem_of_getElem? hgk)
    have hpi := hFd i hv
    have e3 : nI k + Int32.ofInt 1 = nI (k + 1) := nI_1 k
    refine Z.iload_n ok dX1_matchingByIndex_2 rfl ?_
    refine Z.aload_n ok dX1_matchingByIndex_3 rfl (by first | exact isRf.r _ | exact isRf.n | exact isRf.v _ | assumption) ?_
    refine Z.get (ci := 0) (C := RX1) (T := TX1) (N := 5) ok ha rfl in_X1 3 (by decide) q125 (Or.inl rfl) (by rfl) dX1_matchingByIndex_4 ?_
    refine Z.callF (ci := 6) (q := (RJ2, TJ2, 3)) (C := RJ2) ok (alistSize_ct hL) hlo rfl rfl q143 ⟨q145, q144, q150, q148, q146⟩ q149 (Or.inl q147) q19 q151 nkF_List_size rfl (by decide) (by first | exact Nat.le_of_ble_eq_true rfl | simp [Value.category, cat_rf]) (Nat.le_refl _) (Nat.le_refl _) dX1_matchingByIndex_7 rfl ZX.no (fun v w1 hr => ?_)
    obtain ⟨rfl, rfl⟩ := hr
    rw [List.length_map]
    refine Z.icmp_ge (tgt := 38) ok dX1_matchingByIndex_12 (by decide) (fun hc => absurd hc (nI_ge (by omega) (by omega))) (fun _ => ?_)
    refine Z.aload_n ok dX1_matchingByIndex_15 rfl (by first | exact isRf.r _ | exact isRf.n | exact isRf.v _ | assumption) ?_
    refine Z.get (ci := 0) (C := RX1) (T := TX1) (N := 5) ok ha rfl in_X1 3 (by decide) q125 (Or.inl rfl) (by rfl) dX1_matchingByIndex_16 ?_
    refine Z.iload_n ok dX1_matchingByIndex_19 rfl ?_
    refine Z.callF (ci := 6) (q := (RJ2, TJ2, 3)) (C := RJ2) ok (alistGet_ct (y := P i) hL (by rw [List.getElem?_map, hgk]; rfl) (by rw [List.length_map]; omega)) hlo rfl rfl q153 ⟨q155, q154, q159, q157, q146⟩ q158 (Or.inl q156) q19 q160 nkF_List_get rfl (by decide) (by first | exact Nat.le_of_ble_eq_true rfl | simp [Value.category, cat_rf]) (Nat.le_refl _) (Nat.le_refl _) dX1_matchingByIndex_20 rfl ZX.no (fun v w1 hr => ?_)
    obtain ⟨rfl, rfl⟩ := hr
    refine Z.castS (ci := 3) (q := (RX4, TX4, 3)) ok hpi rfl rfl q251 dX1_matchingByIndex_25 ?_
    refine Z.iconst_0 ok dX1_matchingByIndex_28 ?_
    refine Z.put (ci := 3) (C := RX4) (T := TX4) (N := 3) (ty0 := tyX4) ok hpi (by first | decide | assumption) rfl in_X4 tyX4_ok nmX4 2 (by decide) q1137 (Or.inl rfl) rfl (okV_i _) (by rfl) dX1_matchingByIndex_29 ?_
    have h2 := h.inc hv 0
    refine Z.iinc ok dX1_matchingByIndex_32 rfl rfl ?_
    refine Z.goto (tgt := 2) ok dX1_matchingByIndex_35 (by decide) ?_
    have hz := ih (k + 1) _ _ (by omega) h2 (fun j hj => by
      rw [List.take_succ, hgk, Option.toList_some] at hj
      unfold updF
      by_cases e : j = i
      · rw [if_pos e]
      · rw [if_neg e]
        rcases List.mem_append.mp hj with hj | hj
        · exact hF j hj
        · exact absurd (List.mem_singleton.mp hj) e)
    rw [← e3] at hz
    exact hz
theorem mbi_ctA {a lq d mm li : Nat} {qs : List Nat} {LQ P LT : Nat → Nat} {X : List Nat} {E : List Dt} {IX : IXt} (hB : isBs g w0 a S lq d mm li qs LQ P LT X) (hIX : isIX g w0 mm E IX P) (hI : InvA S) (hR : relIX S IX) (hX : X.length < 1000) (hE : E.length < 100000) (hV : ∀ n a b j, j ∈ IX n a b → vP S j) (hln : ∀ n a b, (IX n a b).length < 100000) : Ct g yX1_matchingByIndex cX1_matchingByIndex 5 (some .int) 9 168 1680 [.ref a] w0 (fun o w' => o = rI (foundS S (nq S)) ∧ isBs g w' a S lq d mm li qs LQ P LT X ∧ isIX g w' mm E IX P ∧ FrO w0 w') noX := by
  refine Ct.of RX1 "matchingByIndex" ⟨rfl, rfl⟩ (by decide +kernel) (by simp [Value.category] <;> exact cat_rf _) (Nat.le_of_ble_eq_true rfl) (fun x ok hQ hN => ?_)
  show Z g x 5 0 [some (.ref a), none, none, none, none] [] w0 168 1680
  obtain ⟨F0, hF0⟩ := hB.fd
  have h3 : ∀ q, q < nq S → np S q ≤ 3 := fun q hq => (hB.2.2.2.2.2.2.1 q hq).2
  have hfp := found_places (is := X) hB.2.2.2.2.2.2.2.2.2.2.2.2.1 h3
  refine Z.iconst_0 ok dX1_matchingByIndex_0 ?_
  refine Z.istore_n (i := 1) ok dX1_matchingByIndex_1 rfl (by decide) ?_
  refine mb1 (w0 := w0) ok hX (fun w F l1 h hF => ?_) X.length 0 w0 F0 (Nat.zero_add _) ⟨hB, hIX, hF0, FrO.rf⟩ (fun i hi => by simp at hi)
  refine Z.iconst_0 ok dX1_matchingByIndex_38 ?_
  refine Z.istore_n (i := 1) ok dX1_matchingByIndex_39 rfl (by decide) ?_
  refine mb2 (w0 := w0) ok hQ hI hR hX hE hV hln hF (fun w F h => ⟨by rw [← hfp]; rfl, h.1, h.2.1, h.2.2.2⟩) 6 0 w rfl ?_
  have e : (fun i => F i + nI (nS S IX i 0)) = F := by
    funext i
    exact Int32.add_zero _
  rw [e]
  exact h
end MBI
