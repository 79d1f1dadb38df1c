/-! ===== ALERTINDEX: pieces, pieceAt ===== -/
section PIECES2
variable {g : Gx} {w : Wd} {S : St}
theorem pcs_loop {x : Cx} {a : Nat} {b N : Nat} {l1 : Int32} (ok : OK g x RX1 cX1_pieces 5 4 (some .int)) (hQ : EndQ g x (fun o w' => w = w' ∧ rngB l1 (nI b) = true ∧ o = rI (nI N)) (XX w cIAE (rngB l1 (nI b)))) (hb : b < 64) (hr : rngB l1 (nI b) = true) : ∀ (f at_ n : Nat), 64 ≤ at_ + f → at_ ≤ b + 1 → n + piecesN b f at_ = N → Z g x 5 33 [some (.ref a), some (.int l1), some (.int (nI b)), some (.int (nI n)), some (.int (nI at_))] [] w 0 0 := by
  intro f
  induction f with
  | zero =>
    intro at_ n hf ha hN
    refine Z.iload ok dX1_pieces_33 rfl ?_
    refine Z.iload_n ok dX1_pieces_35 rfl ?_
    refine Z.icmp_gt (tgt := 56) ok dX1_pieces_36 (by decide) (fun _ => ?_) (fun hc => absurd (nI_lt (by omega) (by omega)) hc)
    refine Z.iload_n ok dX1_pieces_56 rfl ?_
    refine Z.iret ok hQ (by first | rfl | exact bI_nar _) dX1_pieces_57 ?_
    exact ⟨rfl, hr, by rw [show n = N by simpa [piecesN] using hN]⟩
  | succ f ih =>
    intro at_ n hf ha hN
    refine Z.iload ok dX1_pieces_33 rfl ?_
    refine Z.iload_n ok dX1_pieces_35 rfl ?_
    unfold piecesN at hN
    by_cases h : at_ ≤ b
    · rw [if_pos h] at hN
      have h1 := pieceN_fit h
      have h2 := pieceN_pos at_ b
      refine Z.icmp_gt (tgt := 56) ok dX1_pieces_36 (by decide) (fun hc => absurd hc (nI_nlt h (by omega))) (fun _ => ?_)
      refine Z.iinc ok dX1_pieces_39 rfl rfl ?_
      refine Z.iload ok dX1_pieces_42 rfl ?_
      refine Z.iload ok dX1_pieces_44 rfl ?_
      refine Z.iload_n ok dX1_pieces_46 rfl ?_
      refine Z.callS ok (piece_ctA at_ b h hb) q1212 q1213 q16 q1214 nk_X1_piece rfl (by decide) (by first | exact Nat.le_of_ble_eq_true rfl | simp [Value.category, cat_rf]) (Nat.le_refl _) (Nat.le_refl _) dX1_pieces_47 rfl ZX.no (fun v w1 hp => ?_)
      obtain ⟨rfl, rfl⟩ := hp
      refine Z.iadd ok dX1_pieces_50 ?_
      refine Z.istore ok dX1_pieces_51 (by decide) ?_
      refine Z.goto (tgt := 33) ok dX1_pieces_53 (by decide) ?_
      have hk := ih (at_ + pieceN at_ b) (n + 1) (by omega) (by omega) (by omega)
      rw [← nI_add at_ (pieceN at_ b), ← nI_1 n] at hk
      exact hk
    · rw [if_neg h] at hN
      refine Z.icmp_gt (tgt := 56) ok dX1_pieces_36 (by decide) (fun _ => ?_) (fun hc => absurd (nI_lt (by omega) (by omega)) hc)
      refine Z.iload_n ok dX1_pieces_56 rfl ?_
      refine Z.iret ok hQ (by first | rfl | exact bI_nar _) dX1_pieces_57 ?_
      exact ⟨rfl, hr, by rw [show n = N by omega]⟩
theorem pieces_ctA {a : Nat} (lo hi : Int32) : Ct g yX1_pieces cX1_pieces 5 (some .int) 4 1 6 [.ref a, .int lo, .int hi] w (fun o w' => w = w' ∧ rngB lo hi = true ∧ o = rI (nI (piecesN (qN hi) 64 (qN lo)))) (XX w cIAE (rngB lo hi)) := by
  refine Ct.of RX1 "pieces" ⟨rfl, rfl⟩ (by decide +kernel) (by simp [Value.category] <;> exact cat_rf _) (Nat.le_of_ble_eq_true rfl) (fun x ok hQ hN => ?_)
  show Z g x 5 0 [some (.ref a), some (.int lo), some (.int hi), none, none] [] w 1 6
  have key : ∀ b : Bool, b = rngB lo hi → Z g x 5 25 [some (.ref a), some (.int lo), some (.int hi), none, none] [.int (bI b)] w 1 6 := by
    intro b hb
    refine Z.callS (kc' := 0) (ks' := 0) ok (want_ct b) q1156 q1157 q16 q1158 nk_X1_want rfl (by decide) (by first | exact Nat.le_of_ble_eq_true rfl | simp [Value.category, cat_rf]) (by omega) (by omega) dX1_pieces_25 rfl (fun E q w' h => ZX.out ok hQ ⟨h.1, h.2.1, hb ▸ h.2.2⟩) (fun v w1 hr => ?_)
    obtain ⟨rfl, rfl, hb2⟩ := hr
    have hr : rngB lo hi = true := hb ▸ hb2
    obtain ⟨c, d, h1, h2, rfl, rfl, e1, e2⟩ := rngB_nI hr
    refine Z.iconst_0 ok dX1_pieces_28 ?_
    refine Z.istore_n (i := 3) ok dX1_pieces_29 rfl (by decide) ?_
    refine Z.iload_n ok dX1_pieces_30 rfl ?_
    refine Z.istore ok dX1_pieces_31 (by decide) ?_
    rw [e1, e2] at hQ
    exact pcs_loop ok hQ h2 hr 64 c 0 (by omega) (by omega) (by omega)
  refine Z.iload_n ok dX1_pieces_0 rfl ?_
  refine Z.iconst_0 ok dX1_pieces_1 ?_
  refine Z.bipush (v := 63) ok dX1_pieces_2 (by decide) ?_
  refine Z.callS (kc' := 1) (ks' := 6) ok (isIn_ct lo 0 63) q1153 q1154 q16 q1155 nk_X1_isIn rfl (by decide) (by first | exact Nat.le_of_ble_eq_true rfl | simp [Value.category, cat_rf]) (by omega) (by omega) dX1_pieces_4 rfl ZX.no (fun v w1 hr => ?_)
  obtain ⟨rfl, rfl⟩ := hr
  have no : rngB lo hi = false → Z g x 5 24 [some (.ref a), some (.int lo), some (.int hi), none, none] [] w 1 6 := by
    intro h
    refine Z.iconst_0 ok dX1_pieces_24 ?_
    exact key false h.symm
  by_cases h1 : bI (inB lo 0 63) = 0
  · refine Z.if_eq (tgt := 24) ok dX1_pieces_7 (by decide) (fun _ => ?_) (fun hc => absurd h1 hc)
    exact no (by unfold rngB; rw [bI_0.mp h1]; rfl)
  · refine Z.if_eq (tgt := 24) ok dX1_pieces_7 (by decide) (fun hc => absurd hc h1) (fun _ => ?_)
    refine Z.iload_n ok dX1_pieces_10 rfl ?_
    refine Z.iload_n ok dX1_pieces_11 rfl ?_
    refine Z.bipush (v := 63) ok dX1_pieces_12 (by decide) ?_
    refine Z.callS (kc' := 1) (ks' := 6) ok (isIn_ct hi lo 63) q1153 q1154 q16 q1155 nk_X1_isIn rfl (by decide) (by first | exact Nat.le_of_ble_eq_true rfl | simp [Value.category, cat_rf]) (by omega) (by omega) dX1_pieces_14 rfl ZX.no (fun v w1 hr => ?_)
    obtain ⟨rfl, rfl⟩ := hr
    by_cases h2 : bI (inB hi lo 63) = 0
    · refine Z.if_eq (tgt := 24) ok dX1_pieces_17 (by decide) (fun _ => ?_) (fun hc => absurd h2 hc)
      exact no (by unfold rngB; rw [bI_0.mp h2, Bool.and_false])
    · refine Z.if_eq (tgt := 24) ok dX1_pieces_17 (by decide) (fun hc => absurd hc h2) (fun _ => ?_)
      refine Z.iconst_1 ok dX1_pieces_20 ?_
      refine Z.goto (tgt := 25) ok dX1_pieces_21 (by decide) ?_
      exact key true (by unfold rngB; rw [bI_n0.mp h1, bI_n0.mp h2]; rfl)
theorem pat_loop {x : Cx} {a b k : Nat} {lo hi kv V : Int32} (ok : OK g x RX1 cX1_pieceAt 6 4 (some .int)) {Post : Option Value → Wd → Prop} {PostX : String → Wd → Prop} (hQ : EndQ g x Post PostX) (hp : Post (rI V) w) (hb : b < 64) (hk : k < 2 ^ 31) : ∀ (f at_ n : Nat), 64 ≤ at_ + f → at_ ≤ b + 1 → n ≤ k → pieceAtN b k f at_ n = V → Z g x 6 47 [some (.ref a), some (.int lo), some (.int (nI b)), some (.int kv), some (.int (nI (k - n))), some (.int (nI at_))] [] w 0 0 := by
  intro f
  induction f with
  | zero =>
    intro at_ n hf ha hn hV
    refine Z.iload ok dX1_pieceAt_47 rfl ?_
    refine Z.iload_n ok dX1_pieceAt_49 rfl ?_
    refine Z.icmp_gt (tgt := 88) ok dX1_pieceAt_50 (by decide) (fun _ => ?_) (fun hc => absurd (nI_lt (by omega) (by omega)) hc)
    refine Z.iconst_m1 ok dX1_pieceAt_88 ?_
    refine Z.iret ok hQ (by first | rfl | exact bI_nar _) dX1_pieceAt_89 ?_
    rw [pieceAtN] at hV
    rw [hV]
    exact hp
  | succ f ih =>
    intro at_ n hf ha hn hV
    refine Z.iload ok dX1_pieceAt_47 rfl ?_
    refine Z.iload_n ok dX1_pieceAt_49 rfl ?_
    unfold pieceAtN at hV
    by_cases h : at_ ≤ b
    · rw [if_pos h] at hV
      have h1 := pieceN_fit h
      have h2 := pieceN_pos at_ b
      refine Z.icmp_gt (tgt := 88) ok dX1_pieceAt_50 (by decide) (fun hc => absurd hc (nI_nlt h (by omega))) (fun _ => ?_)
      refine Z.iload ok dX1_pieceAt_53 rfl ?_
      by_cases hnk : n = k
      · rw [if_pos hnk] at hV
        refine Z.if_ne (tgt := 71) ok dX1_pieceAt_55 (by decide) (fun hc => absurd (by rw [hnk, Nat.sub_self]; rfl) hc) (fun _ => ?_)
        refine Z.bipush (v := 100) ok dX1_pieceAt_58 (by decide) ?_
        refine Z.iload ok dX1_pieceAt_60 rfl ?_
        refine Z.imul ok dX1_pieceAt_62 ?_
        refine Z.iload ok dX1_pieceAt_63 rfl ?_
        refine Z.iload_n ok dX1_pieceAt_65 rfl ?_
        refine Z.callS ok (piece_ctA at_ b h hb) q1212 q1213 q16 q1214 nk_X1_piece rfl (by decide) (by first | exact Nat.le_of_ble_eq_true rfl | simp [Value.category, cat_rf]) (Nat.le_refl _) (Nat.le_refl _) dX1_pieceAt_66 rfl ZX.no (fun v w1 hr => ?_)
        obtain ⟨rfl, rfl⟩ := hr
        refine Z.iadd ok dX1_pieceAt_69 ?_
        rw [show (100 : Int32) * nI at_ + nI (pieceN at_ b) = nI (100 * at_ + pieceN at_ b) by rw [← nI_add, ← pk_mul]; rfl]
        refine Z.iret ok hQ (by first | rfl | exact bI_nar _) dX1_pieceAt_70 ?_
        rw [hV]
        exact hp
      · rw [if_neg hnk] at hV
        refine Z.if_ne (tgt := 71) ok dX1_pieceAt_55 (by decide) (fun _ => ?_) (fun hc => absurd hc (nI_ne0 (by omega) (by omega)))
        refine Z.iinc ok dX1_pieceAt_71 rfl rfl ?_
        refine Z.iload ok dX1_pieceAt_74 rfl ?_
        refine Z.iload ok dX1_pieceAt_76 rfl ?_
        refine Z.iload_n ok dX1_pieceAt_78 rfl ?_
        refine Z.callS ok (piece_ctA at_ b h hb) q1212 q1213 q16 q1214 nk_X1_piece rfl (by decide) (by first | exact Nat.le_of_ble_eq_true rfl | simp [Value.category, cat_rf]) (Nat.le_refl _) (Nat.le_refl _) dX1_pieceAt_79 rfl ZX.no (fun v w1 hr => ?_)
        obtain ⟨rfl, rfl⟩ := hr
        refine Z.iadd ok dX1_pieceAt_82 ?_
        refine Z.istore ok dX1_pieceAt_83 (by decide) ?_
        refine Z.goto (tgt := 47) ok dX1_pieceAt_85 (by decide) ?_
        have hk2 := ih (at_ + pieceN at_ b) (n + 1) (by omega) (by omega) (by omega) hV
        have e3 : nI (k - n) + Int32.ofInt (-1) = nI (k - (n + 1)) := by
          have := m1o (p := k - n) (by omega)
          rw [this]
          congr 1
        rw [← nI_add at_ (pieceN at_ b), ← e3] at hk2
        exact hk2
    · rw [if_neg h] at hV
      refine Z.icmp_gt (tgt := 88) ok dX1_pieceAt_50 (by decide) (fun _ => ?_) (fun hc => absurd (nI_lt (by omega) (by omega)) hc)
      refine Z.iconst_m1 ok dX1_pieceAt_88 ?_
      refine Z.iret ok hQ (by first | rfl | exact bI_nar _) dX1_pieceAt_89 ?_
      rw [hV]
      exact hp
theorem pieceAt_ctA {a : Nat} (lo hi k : Int32) : Ct g yX1_pieceAt cX1_pieceAt 6 (some .int) 4 2 12 [.ref a, .int lo, .int hi, .int k] w (fun o w' => w = w' ∧ ¬ k < 0 ∧ rngB lo hi = true ∧ o = rI (pieceAtN (qN hi) (qN k) 64 (qN lo) 0)) (fun E w' => w = w' ∧ ((E = cIOB ∧ k < 0) ∨ (E = cIAE ∧ ¬ k < 0 ∧ rngB lo hi = false))) := by
  refine Ct.of RX1 "pieceAt" ⟨rfl, rfl⟩ (by decide +kernel) (by simp [Value.category] <;> exact cat_rf _) (Nat.le_of_ble_eq_true rfl) (fun x ok hQ hN => ?_)
  show Z g x 6 0 [some (.ref a), some (.int lo), some (.int hi), some (.int k), none, none] [] w 2 12
  have aft : ¬ k < 0 → Z g x 6 13 [some (.ref a), some (.int lo), some (.int hi), some (.int k), none, none] [] w 1 6 := by
    intro hk0
    obtain ⟨kn, hkn, rfl⟩ := nI_of hk0
    have key : ∀ b : Bool, b = rngB lo hi → Z g x 6 38 [some (.ref a), some (.int lo), some (.int hi), some (.int (nI kn)), none, none] [.int (bI b)] w 1 6 := by
      intro b hb
      refine Z.callS (kc' := 0) (ks' := 0) ok (want_ct b) q1156 q1157 q16 q1158 nk_X1_want rfl (by decide) (by first | exact Nat.le_of_ble_eq_true rfl | simp [Value.category, cat_rf]) (by omega) (by omega) dX1_pieceAt_38 rfl (fun E q w' h => ZX.out ok hQ ⟨h.2.1, Or.inr ⟨h.1, hk0, hb ▸ h.2.2⟩⟩) (fun v w1 hr => ?_)
      obtain ⟨rfl, rfl, hb2⟩ := hr
      have hr : rngB lo hi = true := hb ▸ hb2
      obtain ⟨c, d, h1, h2, rfl, rfl, e1, e2⟩ := rngB_nI hr
      have e3 : qN (nI kn) = kn := nI_clamp (by omega)
      refine Z.iload_n ok dX1_pieceAt_41 rfl ?_
      refine Z.istore ok dX1_pieceAt_42 (by decide) ?_
      refine Z.iload_n ok dX1_pieceAt_44 rfl ?_
      refine Z.istore ok dX1_pieceAt_45 (by decide) ?_
      have hk := pat_loop (a := a) (lo := nI c) (kv := nI kn) (hi := nI d) (k := kn) (V := pieceAtN d kn 64 c 0) ok hQ ⟨rfl, hk0, hr, by rw [e1, e2, e3]⟩ h2 hkn 64 c 0 (by omega) (by omega) (by omega) rfl
      rw [Nat.sub_zero] at hk
      exact hk
    refine Z.iload_n ok dX1_pieceAt_13 rfl ?_
    refine Z.iconst_0 ok dX1_pieceAt_14 ?_
    refine Z.bipush (v := 63) ok dX1_pieceAt_15 (by decide) ?_
    refine Z.callS (kc' := 1) (ks' := 6) ok (isIn_ct lo 0 63) q1153 q1154 q16 q1155 nk_X1_isIn rfl (by decide) (by first | exact Nat.le_of_ble_eq_true rfl | simp [Value.category, cat_rf]) (by omega) (by omega) dX1_pieceAt_17 rfl ZX.no (fun v w1 hr => ?_)
    obtain ⟨rfl, rfl⟩ := hr
    have no : rngB lo hi = false → Z g x 6 37 [some (.ref a), some (.int lo), some (.int hi), some (.int (nI kn)), none, none] [] w 1 6 := by
      intro h
      refine Z.iconst_0 ok dX1_pieceAt_37 ?_
      exact key false h.symm
    by_cases h1 : bI (inB lo 0 63) = 0
    · refine Z.if_eq (tgt := 37) ok dX1_pieceAt_20 (by decide) (fun _ => ?_) (fun hc => absurd h1 hc)
      exact no (by unfold rngB; rw [bI_0.mp h1]; rfl)
    · refine Z.if_eq (tgt := 37) ok dX1_pieceAt_20 (by decide) (fun hc => absurd hc h1) (fun _ => ?_)
      refine Z.iload_n ok dX1_pieceAt_23 rfl ?_
      refine Z.iload_n ok dX1_pieceAt_24 rfl ?_
      refine Z.bipush (v := 63) ok dX1_pieceAt_25 (by decide) ?_
      refine Z.callS (kc' := 1) (ks' := 6) ok (isIn_ct hi lo 63) q1153 q1154 q16 q1155 nk_X1_isIn rfl (by decide) (by first | exact Nat.le_of_ble_eq_true rfl | simp [Value.category, cat_rf]) (by omega) (by omega) dX1_pieceAt_27 rfl ZX.no (fun v w1 hr => ?_)
      obtain ⟨rfl, rfl⟩ := hr
      by_cases h2 : bI (inB hi lo 63) = 0
      · refine Z.if_eq (tgt := 37) ok dX1_pieceAt_30 (by decide) (fun _ => ?_) (fun hc => absurd h2 hc)
        exact no (by unfold rngB; rw [bI_0.mp h2, Bool.and_false])
      · refine Z.if_eq (tgt := 37) ok dX1_pieceAt_30 (by decide) (fun hc => absurd hc h2) (fun _ => ?_)
        refine Z.iconst_1 ok dX1_pieceAt_33 ?_
        refine Z.goto (tgt := 38) ok dX1_pieceAt_34 (by decide) ?_
        exact key true (by unfold rngB; rw [bI_n0.mp h1, bI_n0.mp h2]; rfl)
  refine Z.iload_n ok dX1_pieceAt_0 rfl ?_
  by_cases hk0 : k < 0
  · refine Z.if_ge (tgt := 8) ok dX1_pieceAt_1 (by decide) (fun hc => absurd hc (Int32.not_le.mpr hk0)) (fun _ => ?_)
    refine Z.iconst_m1 ok dX1_pieceAt_4 ?_
    refine Z.goto (tgt := 9) ok dX1_pieceAt_5 (by decide) ?_
    refine Z.iconst_1 ok dX1_pieceAt_9 ?_
    refine Z.callS (kc' := 1) (ks' := 6) ok (exists_ct (-1) 1) q1108 q1109 q16 q1110 nk_X1_exists rfl (by decide) (by first | exact Nat.le_of_ble_eq_true rfl | simp [Value.category, cat_rf]) (by omega) (by omega) dX1_pieceAt_10 rfl (fun E q w' h => ZX.out ok hQ ⟨h.2.1, Or.inl ⟨h.1, hk0⟩⟩) (fun v w1 hr => ?_)
    exact absurd hr.2.2 (by decide)
  · refine Z.if_ge (tgt := 8) ok dX1_pieceAt_1 (by decide) (fun _ => ?_) (fun hc => absurd (Int32.not_lt.mp hk0) hc)
    refine Z.iconst_0 ok dX1_pieceAt_8 ?_
    refine Z.iconst_1 ok dX1_pieceAt_9 ?_
    refine Z.callS (kc' := 1) (ks' := 6) ok (exists_ct 0 1) q1108 q1109 q16 q1110 nk_X1_exists rfl (by decide) (by first | exact Nat.le_of_ble_eq_true rfl | simp [Value.category, cat_rf]) (by omega) (by omega) dX1_pieceAt_10 rfl (fun E q w' h => absurd h.2.2 (by decide)) (fun v w1 hr => ?_)
    obtain ⟨rfl, rfl, -⟩ := hr
    exact aft hk0
end PIECES2
