/-! ===== ALERTINDEX: piece ===== -/
section PIECES
variable {g : Gx} {w : Wd} {S : St}
theorem pc_step {x : Cx} (ok : OK g x RX1 cX1_piece 3 1 (some .int)) {a b t v : Nat} (ha : a < 64) (hb : b < 64) (ht : 0 < t ∧ t ≤ 64) (k1 : a % t = 0 ∧ a + t - 1 ≤ b → Z g x 3 25 [some (.int (nI a)), some (.int (nI b)), some (.int (nI t))] [] w 0 0) (k2 : ¬ (a % t = 0 ∧ a + t - 1 ≤ b) → Z g x 3 3 [some (.int (nI a)), some (.int (nI b)), some (.int (nI (t / 2)))] [] w 0 0) : Z g x 3 3 [some (.int (nI a)), some (.int (nI b)), some (.int (nI t))] [] w 0 0 := by
  have no : ¬ (a % t = 0 ∧ a + t - 1 ≤ b) → Z g x 3 18 [some (.int (nI a)), some (.int (nI b)), some (.int (nI t))] [] w 0 0 := by
    intro h
    refine Z.iload_n ok dX1_piece_18 rfl ?_
    refine Z.iconst_2 ok dX1_piece_19 ?_
    refine Z.idiv ok dX1_piece_20 (by decide) ?_
    refine Z.istore_n (i := 2) ok dX1_piece_21 rfl (by decide) ?_
    refine Z.goto (tgt := 3) ok dX1_piece_22 (by decide) ?_
    have e : nI t / 2 = nI (t / 2) := pk_div (d := 2) (by omega) (by omega) (by omega)
    rw [e]
    exact k2 h
  refine Z.iload_n ok dX1_piece_3 rfl ?_
  refine Z.iload_n ok dX1_piece_4 rfl ?_
  refine Z.irem ok dX1_piece_5 (nI_ne0 ht.1 (by omega)) ?_
  rw [pk_rem (by omega) ht.1 (by omega)]
  refine Z.if_ne (tgt := 18) ok dX1_piece_6 (by decide) (fun hc => ?_) (fun hc => ?_)
  · have h0 : ¬ a % t = 0 := fun h => hc (by rw [h]; rfl)
    exact no (fun h => h0 h.1)
  · have h0 : a % t = 0 := (nI_eq (b := 0) (by have := Nat.mod_lt a ht.1; omega) (by omega)).mp hc
    refine Z.iload_n ok dX1_piece_9 rfl ?_
    refine Z.iload_n ok dX1_piece_10 rfl ?_
    refine Z.iadd ok dX1_piece_11 ?_
    refine Z.iconst_1 ok dX1_piece_12 ?_
    refine Z.isub ok dX1_piece_13 ?_
    refine Z.iload_n ok dX1_piece_14 rfl ?_
    rw [nI_add, show a + t = (a + t - 1) + 1 by omega, nI_pred]
    by_cases h1 : a + t - 1 ≤ b
    · refine Z.icmp_le (tgt := 25) ok dX1_piece_15 (by decide) (fun _ => ?_) (fun hc => absurd (nI_le h1 (by omega)) hc)
      exact k1 ⟨h0, h1⟩
    · refine Z.icmp_le (tgt := 25) ok dX1_piece_15 (by decide) (fun hc => absurd hc (nI_ge (Nat.not_le.mp h1) (by omega))) (fun _ => ?_)
      exact no (fun h => h1 h.2)
theorem pieceN_nest (a b : Nat) : pieceN a b = if a % 64 = 0 ∧ a + 64 - 1 ≤ b then 64 else if a % 32 = 0 ∧ a + 32 - 1 ≤ b then 32 else if a % 16 = 0 ∧ a + 16 - 1 ≤ b then 16 else if a % 8 = 0 ∧ a + 8 - 1 ≤ b then 8 else if a % 4 = 0 ∧ a + 4 - 1 ≤ b then 4 else if a % 2 = 0 ∧ a + 2 - 1 ≤ b then 2 else 1 := by
  unfold pieceN
  simp only [List.foldl_cons, List.foldl_nil]
theorem piece_ctA (a b : Nat) (hab : a ≤ b) (hb : b < 64) : Ct g yX1_piece cX1_piece 3 (some .int) 1 0 0 [.int (nI a), .int (nI b)] w (PW (rI (nI (pieceN a b))) w) noX := by
  refine Ct.of RX1 "piece" ⟨rfl, rfl⟩ (by decide +kernel) (by simp [Value.category] <;> exact cat_rf _) (Nat.le_of_ble_eq_true rfl) (fun x ok hQ hN => ?_)
  show Z g x 3 0 [some (.int (nI a)), some (.int (nI b)), none] [] w 0 0
  have ha : a < 64 := by omega
  have fin : ∀ t, t = pieceN a b → Z g x 3 25 [some (.int (nI a)), some (.int (nI b)), some (.int (nI t))] [] w 0 0 := by
    intro t ht
    refine Z.iload_n ok dX1_piece_25 rfl ?_
    refine Z.iret ok hQ (by first | rfl | exact bI_nar _) dX1_piece_26 ?_
    exact ⟨by rw [ht], rfl⟩
  have hN := pieceN_nest a b
  refine Z.bipush (v := 64) ok dX1_piece_0 (by decide) ?_
  refine Z.istore_n (i := 2) ok dX1_piece_2 rfl (by decide) ?_
  show Z g x 3 3 [some (.int (nI a)), some (.int (nI b)), some (.int (nI 64))] [] w 0 0
  refine pc_step (v := 0) ok ha hb (by decide) (fun c => fin 64 (by rw [hN, if_pos c])) (fun c => ?_)
  rw [if_neg c] at hN
  refine pc_step (v := 0) ok ha hb (by decide) (fun c => fin 32 (by rw [hN, if_pos c])) (fun c => ?_)
  rw [if_neg c] at hN
  refine pc_step (v := 0) ok ha hb (by decide) (fun c => fin 16 (by rw [hN, if_pos c])) (fun c => ?_)
  rw [if_neg c] at hN
  refine pc_step (v := 0) ok ha hb (by decide) (fun c => fin 8 (by rw [hN, if_pos c])) (fun c => ?_)
  rw [if_neg c] at hN
  refine pc_step (v := 0) ok ha hb (by decide) (fun c => fin 4 (by rw [hN, if_pos c])) (fun c => ?_)
  rw [if_neg c] at hN
  refine pc_step (v := 0) ok ha hb (by decide) (fun c => fin 2 (by rw [hN, if_pos c])) (fun c => ?_)
  rw [if_neg c] at hN
  refine pc_step (v := 0) ok ha hb (by decide) (fun c => fin 1 hN.symm) (fun c => ?_)
  exact absurd ⟨Nat.mod_one a, by omega⟩ c
end PIECES
