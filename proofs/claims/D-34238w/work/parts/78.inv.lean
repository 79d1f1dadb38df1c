/-! ===== THE STATE's INVARIANTS over every call ===== -/
/-- rows of what is not yet are 0 -/
def InvZ (S : St) : Prop := (∀ q, nq S ≤ q → S 4 q = 0 ∧ S 5 q = 0 ∧ S 6 q = 0 ∧ S 7 q = 0 ∧ S 8 q = 0 ∧ S 9 q = 0) ∧ ∀ i, ¬ vP S i → S 10 i = 0
def Inv (S : St) (n : Nat) : Prop := InvA S ∧ InvB S n ∧ InvZ S
theorem InvB.le {S : St} {n m : Nat} (h : InvB S n) (hm : n ≤ m) : InvB S m := by
  obtain ⟨h1, h2, h3, h4, h5⟩ := h
  refine ⟨h1, h2, h3, fun q hq => ?_, h5⟩
  obtain ⟨b, hb, e⟩ := h4 q hq
  exact ⟨b, by omega, e⟩
theorem Inv.le {S : St} {n m : Nat} (h : Inv S n) (hm : n ≤ m) : Inv S m := ⟨h.1, h.2.1.le hm, h.2.2⟩
theorem InvZ.zq {S : St} (h : InvZ S) : zeroQ S (nq S) := by
  obtain ⟨a, b, c, d, e, f⟩ := h.1 (nq S) (Nat.le_refl _)
  exact ⟨a, by unfold np; rw [b]; rfl, c, d, e, f⟩
theorem InvZ.nt0 {S : St} (h : InvZ S) (i : Nat) (hv : ¬ vP S i) : nt S i = 0 := by
  unfold nt
  rw [h.2 i hv]
  rfl
/-- question -/
theorem Inv.quest {S : St} {n : Nat} (h : Inv S n) (hk : questK S = 0) : Inv (questS S) n := by
  obtain ⟨hA, ⟨b1, b2, b3, b4, b5⟩, hZ⟩ := h
  obtain ⟨⟨n1, n2⟩, a2, a3, a4, a5, a6, a7, a8⟩ := hA
  have er : ∀ k, k ≠ 2 → questS S k = S k := fun k hk => by unfold questS; funext b; exact up2_k hk
  have h20 : nq S ≠ 20 := fun z => by
    unfold questK at hk
    rw [n1, z, if_pos (by decide)] at hk
    cases hk
  have e1 := questS_nq n1 (by omega)
  have hz0 : np S (nq S) = 0 := hZ.zq.2.1
  have e2 : ∀ j, np (questS S) j = np S j := fun j => by unfold np; rw [er 5 (by decide)]
  have e4 : ∀ j, nt (questS S) j = nt S j := fun j => by unfold nt; rw [er 10 (by decide)]
  have e5 : ∀ j, nmN (questS S) j = nmN S j := fun j => by unfold nmN; rw [er 11 (by decide)]
  refine ⟨⟨⟨?_, by omega⟩, ?_, ?_, ?_, ?_, ?_, ?_, ?_⟩, ⟨?_, ?_, ?_, ?_, ?_⟩, ?_, ?_⟩
  · rw [e1]
    show up2 S 2 0 (S 2 0 + 1) 2 0 = _
    rw [up2_s, n1, nI_1]
  · intro q hq; rw [er 5 (by decide), e2]; exact a2 q hq
  · intro q hq; rw [er 10 (by decide), e4]; exact a3 q hq
  · intro q hq; rw [er 11 (by decide), e5]; exact a4 q hq
  · rw [er 12 (by decide), er 13 (by decide)]; exact a5
  · rw [er 14 (by decide)]; exact a6
  · rw [er 4 (by decide)]; exact a7
  · rw [er 3 (by decide)]; exact a8
  · rw [er 1 (by decide)]; exact b1
  · rw [er 6 (by decide)]; exact b2
  · rw [er 7 (by decide)]; exact b3
  · rw [er 9 (by decide)]; exact b4
  · intro q hq
    rw [er 4 (by decide), er 1 (by decide), er 7 (by decide), er 9 (by decide)]
    by_cases c : q < nq S
    · exact b5 q c
    · intro _ _
      exact (hZ.1 q (by omega)).2.2.2.2.2
  · intro q hq
    rw [er 4 (by decide), er 5 (by decide), er 6 (by decide), er 7 (by decide), er 8 (by decide), er 9 (by decide)]
    exact hZ.1 q (by omega)
  · intro i hi
    rw [er 10 (by decide)]
    exact hZ.2 i (fun z => hi ((questS_vP n1 (by omega) hz0 i).mpr z))
/-- product -/
theorem Inv.prod {S : St} {n i : Nat} (h : Inv S n) (hi : i < nq S) (h3 : np S i < 3) : Inv (prodS S i) n := by
  obtain ⟨hA, ⟨b1, b2, b3, b4, b5⟩, hZ⟩ := h
  obtain ⟨⟨n1, n2⟩, a2, a3, a4, a5, a6, a7, a8⟩ := hA
  have er : ∀ k, k ≠ 5 → prodS S i k = S k := fun k hk => by unfold prodS; funext b; exact up2_k hk
  have e1 : nq (prodS S i) = nq S := by unfold nq; rw [er 2 (by decide)]
  have h5 := (a2 i (by omega)).1
  have e2 := prodS_np h5 (by omega)
  have e3 := prodS_vP h5 h3 hi
  have e4 : ∀ j, nt (prodS S i) j = nt S j := fun j => by unfold nt; rw [er 10 (by decide)]
  have e5 : ∀ j, nmN (prodS S i) j = nmN S j := fun j => by unfold nmN; rw [er 11 (by decide)]
  refine ⟨⟨⟨?_, by omega⟩, ?_, ?_, ?_, ?_, ?_, ?_, ?_⟩, ⟨?_, ?_, ?_, ?_, ?_⟩, ?_, ?_⟩
  · rw [e1, er 2 (by decide)]; exact n1
  · intro q hq
    rw [e2]
    by_cases c : q = i
    · rw [if_pos c, c]
      show up2 S 5 i (S 5 i + 1) 5 i = _ ∧ _
      rw [up2_s, h5, nI_1]
      exact ⟨rfl, by omega⟩
    · rw [if_neg c]
      show up2 S 5 i (S 5 i + 1) 5 q = _ ∧ _
      rw [up2_j c]
      exact a2 q hq
  · intro q hq; rw [er 10 (by decide), e4]; exact a3 q hq
  · intro q hq; rw [er 11 (by decide), e5]; exact a4 q hq
  · rw [er 12 (by decide), er 13 (by decide)]; exact a5
  · rw [er 14 (by decide)]; exact a6
  · rw [er 4 (by decide)]; exact a7
  · rw [er 3 (by decide)]; exact a8
  · rw [er 1 (by decide)]; exact b1
  · rw [er 6 (by decide)]; exact b2
  · rw [er 7 (by decide)]; exact b3
  · rw [er 9 (by decide)]; exact b4
  · rw [e1, er 4 (by decide), er 1 (by decide), er 7 (by decide), er 9 (by decide)]
    exact b5
  · intro q hq
    rw [e1] at hq
    obtain ⟨z1, z2, z3⟩ := hZ.1 q hq
    rw [er 4 (by decide), er 6 (by decide), er 7 (by decide), er 8 (by decide), er 9 (by decide)]
    refine ⟨z1, ?_, z3⟩
    show up2 S 5 i (S 5 i + 1) 5 q = 0
    rw [up2_j (by omega)]
    exact z2
  · intro j hj
    rw [er 10 (by decide)]
    exact hZ.2 j (fun z => hj ((e3 j).mpr (Or.inl z)))
/-- test -/
theorem Inv.test {S S' : St} {n i0 nm lo hi : Nat} (h : Inv S n) (hS : StT S S' i0) (hv : vP S i0) (h4 : nt S i0 < 4) (hi60 : i0 < 60) (h10 : S' 10 i0 = S 10 i0 + 1) (h10' : ∀ j, j ≠ i0 → S' 10 j = S 10 j) (hnm : nm < 6) (hl : lo ≤ hi) (hh : hi < 64) (s11 : S' 11 (4 * i0 + nt S i0) = nI nm) (s12 : S' 12 (4 * i0 + nt S i0) = nI lo) (s13 : S' 13 (4 * i0 + nt S i0) = nI hi) (s14 : S' 14 (4 * i0 + nt S i0) = 0 ∨ S' 14 (4 * i0 + nt S i0) = 1) : Inv S' n := by
  obtain ⟨hA, ⟨b1, b2, b3, b4, b5⟩, hZ⟩ := h
  obtain ⟨⟨n1, n2⟩, a2, a3, a4, a5, a6, a7, a8⟩ := hA
  have er := hS.1
  have e1 := hS.nqq
  have e2 := hS.npp
  have e3 := hS.vPi
  refine ⟨⟨⟨?_, by omega⟩, ?_, ?_, ?_, ?_, ?_, ?_, ?_⟩, ⟨?_, ?_, ?_, ?_, ?_⟩, ?_, ?_⟩
  · rw [e1, er 2 (by decide)]; exact n1
  · intro q hq; rw [er 5 (by decide), e2]; exact a2 q hq
  · intro q hq
    rw [hS.2.1]
    by_cases c : q = i0
    · rw [if_pos c, c, h10, (a3 i0 hi60).1, nI_1]
      exact ⟨rfl, by omega⟩
    · rw [if_neg c, h10' q c]
      exact a3 q hq
  · intro k hk
    unfold nmN
    by_cases c : k = 4 * i0 + nt S i0
    · rw [c, s11, nI_clamp (by omega)]
      exact ⟨rfl, hnm⟩
    · rw [hS.2.2 11 k (by decide) (by decide) c]
      exact a4 k hk
  · intro k hk
    by_cases c : k = 4 * i0 + nt S i0
    · rw [c, s12, s13]
      exact ⟨lo, hi, hl, hh, rfl, rfl⟩
    · rw [hS.2.2 12 k (by decide) (by decide) c, hS.2.2 13 k (by decide) (by decide) c]
      exact a5 k hk
  · intro k hk
    by_cases c : k = 4 * i0 + nt S i0
    · rw [c]
      exact s14
    · rw [hS.2.2 14 k (by decide) (by decide) c]
      exact a6 k hk
  · rw [er 4 (by decide)]; exact a7
  · rw [er 3 (by decide)]; exact a8
  · rw [er 1 (by decide)]; exact b1
  · rw [er 6 (by decide)]; exact b2
  · rw [er 7 (by decide)]; exact b3
  · rw [er 9 (by decide)]; exact b4
  · rw [e1, er 4 (by decide), er 1 (by decide), er 7 (by decide), er 9 (by decide)]
    exact b5
  · rw [e1, er 4 (by decide), er 5 (by decide), er 6 (by decide), er 7 (by decide), er 8 (by decide), er 9 (by decide)]
    exact hZ.1
  · intro j hj
    have hj' : ¬ vP S j := fun z => hj ((e3 j).mpr z)
    rw [h10' j (fun z => hj' (z ▸ hv))]
    exact hZ.2 j hj'
/-- one place of a row is changed that the places don't stand on -/
theorem Inv.row {S : St} {n k j : Nat} {v : Int32} (h : Inv S n) (hk : (k = 3 ∧ (v = -1 ∨ ∃ u : Nat, u < 64 ∧ v = nI u)) ∨ (k = 4 ∧ j < nq S ∧ v = 1) ∨ (k = 6 ∧ j < nq S ∧ ∃ u : Nat, u ≤ 1000 ∧ v = nI u)) : Inv (up2 S k j v) n := by
  obtain ⟨hA, ⟨b1, b2, b3, b4, b5⟩, hZ⟩ := h
  obtain ⟨⟨n1, n2⟩, a2, a3, a4, a5, a6, a7, a8⟩ := hA
  have hk3 : k = 3 ∨ k = 4 ∨ k = 6 := by
    rcases hk with ⟨c, -⟩ | ⟨c, -⟩ | ⟨c, -⟩ <;> omega
  have er : ∀ r, r ≠ k → up2 S k j v r = S r := fun r hr => by funext b; exact up2_k hr
  have e1 : nq (up2 S k j v) = nq S := by unfold nq; rw [er 2 (by omega)]
  have e2 : ∀ j', np (up2 S k j v) j' = np S j' := fun j' => by unfold np; rw [er 5 (by omega)]
  have e3 : ∀ i, vP (up2 S k j v) i ↔ vP S i := fun i => by unfold vP; rw [e1, e2]
  have e4 : ∀ j', nt (up2 S k j v) j' = nt S j' := fun j' => by unfold nt; rw [er 10 (by omega)]
  have e5 : ∀ j', nmN (up2 S k j v) j' = nmN S j' := fun j' => by unfold nmN; rw [er 11 (by omega)]
  refine ⟨⟨⟨?_, by omega⟩, ?_, ?_, ?_, ?_, ?_, ?_, ?_⟩, ⟨?_, ?_, ?_, ?_, ?_⟩, ?_, ?_⟩
  · rw [e1, er 2 (by omega)]; exact n1
  · intro q hq; rw [er 5 (by omega), e2]; exact a2 q hq
  · intro q hq; rw [er 10 (by omega), e4]; exact a3 q hq
  · intro q hq; rw [er 11 (by omega), e5]; exact a4 q hq
  · rw [er 12 (by omega), er 13 (by omega)]; exact a5
  · rw [er 14 (by omega)]; exact a6
  · intro q hq
    by_cases c : k = 4 ∧ q = j
    · obtain ⟨rfl, rfl⟩ := c
      rw [up2_s]
      rcases hk with ⟨c, -⟩ | ⟨-, -, c⟩ | ⟨c, -⟩
      · omega
      · exact Or.inr c
      · omega
    · have : up2 S k j v 4 q = S 4 q := by
        by_cases c4 : k = 4
        · subst c4
          exact up2_j (fun z => c ⟨rfl, z⟩)
        · exact up2_k (by omega)
      rw [this]
      exact a7 q hq
  · intro q hq
    by_cases c : k = 3 ∧ q = j
    · obtain ⟨rfl, rfl⟩ := c
      rw [up2_s]
      rcases hk with ⟨-, c⟩ | ⟨c, -⟩ | ⟨c, -⟩
      · exact c
      · omega
      · omega
    · have : up2 S k j v 3 q = S 3 q := by
        by_cases c4 : k = 3
        · subst c4
          exact up2_j (fun z => c ⟨rfl, z⟩)
        · exact up2_k (by omega)
      rw [this]
      exact a8 q hq
  · rw [er 1 (by omega)]; exact b1
  · intro q hq
    by_cases c : k = 6 ∧ q = j
    · obtain ⟨rfl, rfl⟩ := c
      rw [up2_s]
      rcases hk with ⟨c, -⟩ | ⟨c, -⟩ | ⟨-, -, c⟩
      · omega
      · omega
      · exact c
    · have : up2 S k j v 6 q = S 6 q := by
        by_cases c4 : k = 6
        · subst c4
          exact up2_j (fun z => c ⟨rfl, z⟩)
        · exact up2_k (by omega)
      rw [this]
      exact b2 q hq
  · rw [er 7 (by omega)]; exact b3
  · rw [er 9 (by omega)]; exact b4
  · intro q hq hq4
    rw [e1] at hq
    rw [er 1 (by omega), er 7 (by omega), er 9 (by omega)]
    by_cases c : k = 4 ∧ q = j
    · obtain ⟨rfl, rfl⟩ := c
      rw [up2_s] at hq4
      rcases hk with ⟨c, -⟩ | ⟨-, -, c⟩ | ⟨c, -⟩
      · omega
      · rw [c] at hq4
        exact absurd hq4 (by decide)
      · omega
    · have : up2 S k j v 4 q = S 4 q := by
        by_cases c4 : k = 4
        · subst c4
          exact up2_j (fun z => c ⟨rfl, z⟩)
        · exact up2_k (by omega)
      rw [this] at hq4
      exact b5 q hq hq4
  · intro q hq
    rw [e1] at hq
    have hh : ∀ r, 4 ≤ r → up2 S k j v r q = S r q := fun r hr => by
      by_cases c : r = k
      · rw [c]
        refine up2_j (fun z => ?_)
        rcases hk with ⟨c, -⟩ | ⟨-, c, -⟩ | ⟨-, c, -⟩ <;> omega
      · exact up2_k c
    rw [hh 4 (by decide), hh 5 (by decide), hh 6 (by decide), hh 7 (by decide), hh 8 (by decide), hh 9 (by decide)]
    exact hZ.1 q hq
  · intro i hi
    rw [er 10 (by omega)]
    exact hZ.2 i (fun z => hi ((e3 i).mpr z))
