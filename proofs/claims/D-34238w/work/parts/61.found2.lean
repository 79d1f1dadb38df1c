/-! ===== THE INDEX's COUNT, plain law: found, size and open make up a product ===== -/
/-- true plain tests -/
def trueN (S : St) (i : Nat) : Nat → Nat
  | 0 => 0
  | t + 1 => trueN S i t + (if S 14 (4 * i + t) = 0 ∧ tstB S (4 * i + t) = true then 1 else 0)
theorem trueN_le (S : St) (i : Nat) : ∀ n, trueN S i n ≤ plainN S i n
  | 0 => Nat.le_refl _
  | n + 1 => by
    have := trueN_le S i n
    rw [trueN, plainN]
    by_cases h : S 14 (4 * i + n) = 0
    · rw [if_pos h]
      split <;> omega
    · rw [if_neg h, if_neg (fun c => h c.1)]
      omega
theorem found_all (S : St) (i : Nat) : ∀ n, (decide (trueN S i n = plainN S i n) && (List.range n).all fun t => decide (S 14 (4 * i + t) = 0) || tstB S (4 * i + t)) = (List.range n).all fun t => tstB S (4 * i + t)
  | 0 => by simp [trueN, plainN]
  | n + 1 => by
    have ih := found_all S i n
    have hle := trueN_le S i n
    rw [all_step, all_step, ← ih, trueN, plainN]
    by_cases h : S 14 (4 * i + n) = 0
    · cases ht : tstB S (4 * i + n) with
      | true =>
        have e : decide (trueN S i n + (if S 14 (4 * i + n) = 0 ∧ true = true then 1 else 0) = plainN S i n + (if S 14 (4 * i + n) = 0 then 1 else 0)) = decide (trueN S i n = plainN S i n) := by
          rw [if_pos ⟨h, rfl⟩, if_pos h]
          apply decide_eq_decide.mpr
          omega
        rw [e]
        simp
      | false =>
        have e : decide (trueN S i n + (if S 14 (4 * i + n) = 0 ∧ false = true then 1 else 0) = plainN S i n + (if S 14 (4 * i + n) = 0 then 1 else 0)) = false := by
          rw [if_neg (fun c => by cases c.2), if_pos h]
          apply decide_eq_false
          omega
        rw [e]
        simp
    · have e : decide (trueN S i n + (if S 14 (4 * i + n) = 0 ∧ tstB S (4 * i + n) = true then 1 else 0) = plainN S i n + (if S 14 (4 * i + n) = 0 then 1 else 0)) = decide (trueN S i n = plainN S i n) := by
        rw [if_neg (fun c => h c.1), if_neg h]
        rfl
      rw [e, decide_eq_false h, Bool.false_or, Bool.and_assoc]
/-- what matchingByIndex asks of a product -/
theorem prodB_found (S : St) (i : Nat) : (decide (trueN S i (nt S i) = plainN S i (nt S i)) && openB S i) = prodB S i := found_all S i (nt S i)
