/-! ===== THE STATE's INVARIANTS over come and advance ===== -/
def Bq5 (r : St) (n q : Nat) : Prop := (∃ u : Nat, u ≤ 1001000 ∧ r 7 q = nI u) ∧ (∃ b : Nat, b ≤ n ∧ r 9 q = nI b) ∧ (r 4 q = 0 → ¬ r 1 0 < r 7 q → r 9 q = 0)
theorem Bq5.cg {r r' : St} {n m q : Nat} (h : Bq5 r n q) (hm : n ≤ m) (e1 : r' 1 0 = r 1 0) (e4 : r' 4 q = r 4 q) (e7 : r' 7 q = r 7 q) (e9 : r' 9 q = r 9 q) : Bq5 r' m q := by
  obtain ⟨h1, ⟨b, hb, h2⟩, h3⟩ := h
  unfold Bq5
  rw [e1, e4, e7, e9]
  exact ⟨h1, ⟨b, by omega, h2⟩, h3⟩
theorem InvB.of {S : St} {n : Nat} (h1 : ∃ M : Nat, M ≤ 1000000 ∧ S 1 0 = nI M) (h2 : ∀ q, q < 20 → ∃ u : Nat, u ≤ 1000 ∧ S 6 q = nI u) (hn : nq S ≤ 20) (h3 : ∀ q, q < nq S → Bq5 S n q) (hz : ∀ q, nq S ≤ q → S 7 q = 0 ∧ S 9 q = 0) : InvB S n := by
  refine ⟨h1, h2, fun q hq => ?_, fun q hq => ?_, fun q hq => (h3 q hq).2.2⟩
  · by_cases c : q < nq S
    · exact (h3 q c).1
    · exact ⟨0, by omega, (hz q (by omega)).1⟩
  · by_cases c : q < nq S
    · exact (h3 q c).2.1
    · exact ⟨0, by omega, (hz q (by omega)).2⟩
theorem InvB.q5 {S : St} {n q : Nat} (h : InvB S n) (hn : nq S ≤ 20) (hq : q < nq S) : Bq5 S n q := ⟨h.2.2.1 q (by omega), h.2.2.2.1 q (by omega), h.2.2.2.2 q hq⟩
/-- raise: question q at the minute M -/
theorem raise_q5 {r : St} {n M u q : Nat} (hM : M ≤ 1000000) (h1 : r 1 0 = nI M) (hu : u ≤ 1000) (h6 : r 6 q = nI u) (h9 : r 9 q = 0) : Bq5 (raisesS r q) n q ∧ (raisesS r q) 1 0 = r 1 0 := by
  have e1 : raisesS r q 1 0 = r 1 0 := by unfold raisesS; rw [up2_k (by decide), up2_k (by decide)]
  have e7 : raisesS r q 7 q = nI (M + u) := by unfold raisesS; rw [up2_s, h1, h6, nI_add]
  have e9 : raisesS r q 9 q = 0 := by unfold raisesS; rw [up2_k (by decide), up2_k (by decide), h9]
  refine ⟨⟨⟨M + u, by omega, e7⟩, ⟨0, by omega, e9⟩, fun _ _ => e9⟩, e1⟩
theorem raise_oth {r : St} {q k i : Nat} (h : i ≠ q ∨ (k ≠ 7 ∧ k ≠ 8)) : raisesS r q k i = r k i := by
  unfold raisesS
  rcases h with h | ⟨h, h'⟩
  · rw [up2_j h, up2_j h]
  · rw [up2_k h, up2_k h']
theorem come_q5 {S : St} {n : Nat} (h : Inv S n) : ∀ j, j ≤ nq S → ∀ q, q < j → Bq5 (comeS S j).1 (n + 1) q
  | 0, _, q, hq => absurd hq (Nat.not_lt_zero _)
  | j + 1, hj, q, hq => by
    obtain ⟨hA, hB, hZ⟩ := h
    obtain ⟨r1, r2⟩ := come_row (S := S) j
    have ih := come_q5 ⟨hA, hB, hZ⟩ j (by omega)
    have hn2 := hA.1.2
    obtain ⟨M, hM, hM1⟩ := hB.1
    obtain ⟨u, hu, hu6⟩ := hB.2.1 j (by omega)
    have hq5 := hB.q5 hn2 (show j < nq S by omega)
    have e1 : (comeS S j).1 1 0 = S 1 0 := by rw [r1 1 (by decide) (by decide) (by decide)]
    have e4 : ∀ q, (comeS S j).1 4 q = S 4 q := fun q => by rw [r1 4 (by decide) (by decide) (by decide)]
    have e6 : ∀ q, (comeS S j).1 6 q = S 6 q := fun q => by rw [r1 6 (by decide) (by decide) (by decide)]
    have e7 := r2 7 j (Nat.le_refl j)
    have e9 := r2 9 j (Nat.le_refl j)
    have hr5 : Bq5 (comeS S j).1 n j := hq5.cg (Nat.le_refl _) e1 (e4 j) e7 e9
    unfold comeS
    dsimp only
    generalize hrr : (comeS S j).1 = r at ih e1 e4 e6 e7 e9 hr5 ⊢
    split
    · rename_i hact
      have h4 : r 4 j = 0 := by
        unfold actB at hact
        rw [Bool.and_eq_true] at hact
        exact of_decide_eq_true hact.1
      split
      · rename_i hlt
        dsimp only
        by_cases c : q = j
        · rw [c]
          obtain ⟨p1, ⟨b, hb, p2⟩, p3⟩ := hr5
          have k1 : up2 r 9 j (r 9 j + 1) 1 0 = r 1 0 := up2_k (by decide)
          have k7 : up2 r 9 j (r 9 j + 1) 7 j = r 7 j := up2_k (by decide)
          refine ⟨by rw [k7]; exact p1, ⟨b + 1, by omega, by rw [up2_s, p2, nI_1]⟩, fun _ hh => ?_⟩
          rw [k1, k7] at hh
          exact absurd hlt hh
        · exact (ih q (by omega)).cg (Nat.le_refl _) (up2_k (by decide)) (up2_k (by decide)) (up2_k (by decide)) (up2_j c)
      · rename_i hlt
        dsimp only
        have h9 : r 9 j = 0 := hr5.2.2 h4 hlt
        obtain ⟨p1, p2⟩ := raise_q5 (n := n + 1) hM (e1.trans hM1) hu ((e6 j).trans hu6) h9
        by_cases c : q = j
        · rw [c]
          exact p1
        · exact (ih q (by omega)).cg (Nat.le_refl _) (raise_oth (Or.inr (by decide))) (raise_oth (Or.inr (by decide))) (raise_oth (Or.inl c)) (raise_oth (Or.inr (by decide)))
    · rw [hrr]
      by_cases c : q = j
      · rw [c]
        exact hr5.cg (Nat.le_succ n) rfl rfl rfl rfl
      · exact ih q (by omega)
theorem InvZ.same {S S' : St} (h : InvZ S) (hs : SameA S S') (h6 : S' 6 = S 6) (hz : ∀ k i, k ≠ 1 → nq S ≤ i → S' k i = S k i) : InvZ S' := by
  obtain ⟨a1, a2, a3, a4, a5, a6, a7, a8, a9⟩ := hs
  have e1 : nq S' = nq S := by unfold nq; rw [a1]
  refine ⟨fun q hq => ?_, fun i hi => ?_⟩
  · rw [e1] at hq
    rw [hz 4 q (by decide) hq, hz 5 q (by decide) hq, hz 6 q (by decide) hq, hz 7 q (by decide) hq, hz 8 q (by decide) hq, hz 9 q (by decide) hq]
    exact h.1 q hq
  · rw [a5]
    exact h.2 i (fun z => hi (by
      unfold vP np at z ⊢
      rw [e1, a4]
      exact z))
theorem Inv.come {S : St} {n : Nat} (h : Inv S n) : Inv (comeS S (nq S)).1 (n + 1) := by
  obtain ⟨r1, r2⟩ := come_row (S := S) (nq S)
  have hs := comeS_same (S := S) (nq S)
  have e1 := hs.nq
  have hq := come_q5 h (nq S) (Nat.le_refl _)
  obtain ⟨hA, hB, hZ⟩ := h
  refine ⟨hs.inv hA, InvB.of ?_ ?_ (by rw [e1]; exact hA.1.2) (by rw [e1]; exact hq) ?_, hZ.same hs (r1 6 (by decide) (by decide) (by decide)) (fun k i _ hi => r2 k i hi)⟩
  · rw [r1 1 (by decide) (by decide) (by decide)]; exact hB.1
  · rw [r1 6 (by decide) (by decide) (by decide)]; exact hB.2.1
  · intro q hq
    rw [e1] at hq
    rw [r2 7 q hq, r2 9 q hq]
    obtain ⟨-, -, -, z7, -, z9⟩ := hZ.1 q hq
    exact ⟨z7, z9⟩
theorem tick_row {S : St} {m : Int32} : ∀ (j : Nat), (∀ k, k ≠ 1 → k ≠ 7 → k ≠ 8 → k ≠ 9 → (tickS S m j).1 k = S k) ∧ (∀ k i, k ≠ 1 → j ≤ i → (tickS S m j).1 k i = S k i) ∧ (tickS S m j).1 1 0 = S 1 0 + 1
  | 0 => ⟨fun k h1 _ _ _ => up2_rowk h1, fun k i h1 _ => up2_k h1, up2_s (S := S) (k := 1) (j := 0) (v := S 1 0 + 1)⟩
  | j + 1 => by
    obtain ⟨r1, r2, r3⟩ := tick_row (S := S) (m := m) j
    unfold tickS
    dsimp only
    generalize hrr : (tickS S m j).1 = r at r1 r2 r3 ⊢
    split
    · dsimp only
      refine ⟨fun k h1 h7 h8 h9 => ?_, fun k i h1 hi => ?_, ?_⟩
      · unfold raisesS
        rw [up2_rowk h7, up2_rowk h8, up2_rowk h9]
        exact r1 k h1 h7 h8 h9
      · rw [raise_oth (Or.inl (by omega)), up2_j (by omega)]
        exact r2 k i h1 (by omega)
      · rw [raise_oth (Or.inr (by decide)), up2_k (by decide)]
        exact r3
    · rw [hrr]
      exact ⟨r1, fun k i h1 hi => r2 k i h1 (by omega), r3⟩
theorem tick_q5 {S : St} {m : Int32} {n M : Nat} (hn31 : n < 2 ^ 31) (h : Inv S n) (hM1 : S 1 0 = nI M) (hM : M + 1 ≤ 1000000) : ∀ j, j ≤ nq S → ∀ q, q < j → Bq5 (tickS S m j).1 n q
  | 0, _, q, hq => absurd hq (Nat.not_lt_zero _)
  | j + 1, hj, q, hq => by
    obtain ⟨hA, hB, hZ⟩ := h
    obtain ⟨r1, r2, r3⟩ := tick_row (S := S) (m := m) j
    have ih := tick_q5 (m := m) hn31 ⟨hA, hB, hZ⟩ hM1 hM j (by omega)
    have hn2 := hA.1.2
    obtain ⟨u, hu, hu6⟩ := hB.2.1 j (by omega)
    obtain ⟨⟨v, hv, hv7⟩, ⟨b, hb, hb9⟩, h3⟩ := hB.q5 hn2 (show j < nq S by omega)
    have e1 : (tickS S m j).1 1 0 = nI (M + 1) := by rw [r3, hM1, nI_1]
    have e4 : ∀ q, (tickS S m j).1 4 q = S 4 q := fun q => by rw [r1 4 (by decide) (by decide) (by decide) (by decide)]
    have e6 : ∀ q, (tickS S m j).1 6 q = S 6 q := fun q => by rw [r1 6 (by decide) (by decide) (by decide) (by decide)]
    have e7 := r2 7 j (by decide) (Nat.le_refl j)
    have e9 := r2 9 j (by decide) (Nat.le_refl j)
    have hb5 : b < 2 ^ 31 ∨ True := Or.inr trivial
    unfold tickS
    dsimp only
    generalize hrr : (tickS S m j).1 = r at ih e1 e4 e6 e7 e9 ⊢
    split
    · dsimp only
      have k9 : up2 r 9 j 0 9 j = 0 := up2_s
      obtain ⟨p1, p2⟩ := raise_q5 (r := up2 r 9 j 0) (n := n) (q := j) hM ((up2_k (by decide)).trans e1) hu ((up2_k (by decide)).trans ((e6 j).trans hu6)) k9
      by_cases c : q = j
      · rw [c]
        exact p1
      · refine (ih q (by omega)).cg (Nat.le_refl _) ?_ ?_ ?_ ?_
        · rw [raise_oth (Or.inr (by decide)), up2_k (by decide)]
        · rw [raise_oth (Or.inr (by decide)), up2_k (by decide)]
        · rw [raise_oth (Or.inl c), up2_j c]
        · rw [raise_oth (Or.inl c), up2_j c]
    · rename_i hc
      rw [hrr]
      by_cases c : q = j
      · rw [c]
        refine ⟨⟨v, hv, e7.trans hv7⟩, ⟨b, hb, e9.trans hb9⟩, fun h4 hlt => ?_⟩
        rw [e1, e7, hv7] at hlt
        rw [e4] at h4
        have hvm : v ≤ M + 1 := by
          have := Int32.not_lt.mp hlt
          exact (nI_leI (by omega) (by omega)).mp this
        by_cases cv : v = M + 1
        · have h0 : ¬ (0 : Int32) < r 9 j := fun z => hc ⟨h4, by rw [e1, e7, hv7, cv], z⟩
          rw [e9, hb9] at h0 ⊢
          by_cases cb : b = 0
          · rw [cb]
            rfl
          · exact absurd (show nI 0 < nI b from nI_lt (by omega) (by omega)) h0
        · rw [e9]
          refine h3 h4 ?_
          rw [hM1, hv7]
          exact nI_nlt (by omega) (by omega)
      · exact ih q (by omega)
theorem Inv.tick {S : St} {m : Int32} {n M : Nat} (hn31 : n < 2 ^ 31) (h : Inv S n) (hM1 : S 1 0 = nI M) (hM : M + 1 ≤ 1000000) : Inv (tickS S m (nq S)).1 n := by
  obtain ⟨r1, r2, r3⟩ := tick_row (S := S) (m := m) (nq S)
  have hs := tickS_same (S := S) (n := m) (nq S)
  have e1 := hs.nq
  have hq := tick_q5 (m := m) hn31 h hM1 hM (nq S) (Nat.le_refl _)
  obtain ⟨hA, hB, hZ⟩ := h
  refine ⟨hs.inv hA, InvB.of ⟨M + 1, hM, by rw [r3, hM1, nI_1]⟩ ?_ (by rw [e1]; exact hA.1.2) (by rw [e1]; exact hq) ?_, hZ.same hs (r1 6 (by decide) (by decide) (by decide) (by decide)) (fun k i h1 hi => r2 k i h1 hi)⟩
  · rw [r1 6 (by decide) (by decide) (by decide) (by decide)]; exact hB.2.1
  · intro q hq
    rw [e1] at hq
    rw [r2 7 q (by decide) hq, r2 9 q (by decide) hq]
    obtain ⟨-, -, -, z7, -, z9⟩ := hZ.1 q hq
    exact ⟨z7, z9⟩
theorem Inv.adv {S : St} {n M : Nat} (hn31 : n < 2 ^ 31) (h : Inv S n) (hM1 : S 1 0 = nI M) : ∀ k, M + k ≤ 1000000 → Inv (advS S k).1 n ∧ (advS S k).1 1 0 = nI (M + k)
  | 0, _ => ⟨h, hM1⟩
  | k + 1, hk => by
    obtain ⟨h1, h2⟩ := Inv.adv hn31 h hM1 k (by omega)
    have e1 := (advS_same (S := S) k).nq
    unfold advS
    rw [← e1]
    refine ⟨h1.tick hn31 h2 (by omega), ?_⟩
    rw [(tick_row (nq _)).2.2, h2, nI_1]
    rfl
theorem Inv.advance {S : St} {n : Nat} {mi : Int32} (hn31 : n < 2 ^ 31) (h : Inv S n) (hk : advK S mi = 0) : Inv (advS S mi.toNatClampNeg).1 n := by
  unfold advK at hk
  split at hk
  · rename_i h1
    split at hk
    · rename_i h2
      obtain ⟨M, hM, hM1⟩ := h.2.1.1
      unfold inB at h1
      rw [Bool.and_eq_true] at h1
      have c1 := of_decide_eq_true h1.1
      have c2 := of_decide_eq_true h1.2
      obtain ⟨j, hj, rfl⟩ := nI_of2 (M := 1000) (n := 1000) (by decide) (fun z => by
        have a1 := Int32.le_iff_toInt_le.mp c1
        have a2 := Int32.lt_iff_toInt_lt.mp z
        rw [show (1 : Int32).toInt = 1 by decide] at a1
        rw [show (0 : Int32).toInt = 0 by decide] at a2
        omega) c2
      rw [nI_clamp (by omega)]
      rw [hM1, nI_add] at h2
      have h3 : M + j ≤ 1000000 := (nI_leI (b := 1000000) (by omega) (by omega)).mp h2
      exact (h.adv hn31 hM1 j h3).1
    · exact absurd hk (by decide)
  · exact absurd hk (by decide)
/-- at the start -/
theorem Inv.start : Inv (mDraft 6) 0 := by
  have e0 : ∀ k j, k ≠ 3 → mDraft 6 k j = 0 := fun k j hk => if_neg (fun z => hk z.1)
  have e3 : ∀ j, j < 6 → mDraft 6 3 j = -1 := fun j hj => if_pos ⟨rfl, hj⟩
  have hn : nq (mDraft 6) = 0 := by unfold nq; rw [e0 2 0 (by decide)]; rfl
  have hp : ∀ q, np (mDraft 6) q = 0 := fun q => by unfold np; rw [e0 5 q (by decide)]; rfl
  have ht : ∀ q, nt (mDraft 6) q = 0 := fun q => by unfold nt; rw [e0 10 q (by decide)]; rfl
  have hm : ∀ q, nmN (mDraft 6) q = 0 := fun q => by unfold nmN; rw [e0 11 q (by decide)]; rfl
  refine ⟨⟨⟨?_, by omega⟩, ?_, ?_, ?_, ?_, ?_, ?_, ?_⟩, ⟨?_, ?_, ?_, ?_, ?_⟩, ?_, ?_⟩
  · rw [hn, e0 2 0 (by decide)]; rfl
  · intro q _; rw [hp, e0 5 q (by decide)]; exact ⟨rfl, by decide⟩
  · intro q _; rw [ht, e0 10 q (by decide)]; exact ⟨rfl, by decide⟩
  · intro q _; rw [hm, e0 11 q (by decide)]; exact ⟨rfl, by decide⟩
  · intro q _; exact ⟨0, 0, by decide, by decide, by rw [e0 12 q (by decide)]; rfl, by rw [e0 13 q (by decide)]; rfl⟩
  · intro q _; exact Or.inl (e0 14 q (by decide))
  · intro q _; exact Or.inl (e0 4 q (by decide))
  · intro j hj; exact Or.inl (e3 j hj)
  · exact ⟨0, by decide, by rw [e0 1 0 (by decide)]; rfl⟩
  · intro q _; exact ⟨0, by decide, by rw [e0 6 q (by decide)]; rfl⟩
  · intro q _; exact ⟨0, by decide, by rw [e0 7 q (by decide)]; rfl⟩
  · intro q _; exact ⟨0, by decide, by rw [e0 9 q (by decide)]; rfl⟩
  · intro q hq; omega
  · intro q _; exact ⟨e0 4 q (by decide), e0 5 q (by decide), e0 6 q (by decide), e0 7 q (by decide), e0 8 q (by decide), e0 9 q (by decide)⟩
  · intro i _; exact e0 10 i (by decide)
