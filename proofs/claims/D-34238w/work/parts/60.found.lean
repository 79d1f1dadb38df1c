/-! ===== THE INDEX's COUNT, plain law: a value lies in one piece of each range that holds it ===== -/
/-- how often (a, n) is among the pieces of at_..hi -/
def pcC (hi a n : Nat) : Nat → Nat → Nat
  | 0, _ => 0
  | f + 1, at_ => if at_ ≤ hi then (if at_ = a ∧ pieceN at_ hi = n then 1 else 0) + pcC hi a n f (at_ + pieceN at_ hi) else 0
/-- over the seven lengths -/
def s7 (F : Nat → Nat) : Nat := F 1 + F 2 + F 4 + F 8 + F 16 + F 32 + F 64
theorem pieceN_ok (a b : Nat) : (pieceN a b = 1 ∨ pieceN a b = 2 ∨ pieceN a b = 4 ∨ pieceN a b = 8 ∨ pieceN a b = 16 ∨ pieceN a b = 32 ∨ pieceN a b = 64) ∧ a % pieceN a b = 0 := by
  rw [pieceN_nest]
  repeat' split
  all_goals (first | omega | (rename_i h; exact ⟨by omega, h.1⟩))
theorem s7_add (F G : Nat → Nat) : s7 (fun n => F n + G n) = s7 F + s7 G := by
  simp only [s7]
  omega
theorem mod_in {a n v : Nat} (hn : 0 < n) (ha : a % n = 0) : a = v - v % n ↔ a ≤ v ∧ v < a + n := by
  have h1 := Nat.div_add_mod v n
  have h2 := Nat.div_add_mod a n
  have h3 := Nat.mod_lt v hn
  rw [ha, Nat.add_zero] at h2
  constructor
  · intro h
    omega
  · rintro ⟨h4, h5⟩
    have h6 : v / n = a / n := by
      apply Nat.le_antisymm
      · apply Nat.lt_succ_iff.mp
        apply Nat.div_lt_of_lt_mul
        rw [Nat.mul_succ]
        omega
      · exact Nat.div_le_div_right h4
    rw [h6] at h1
    omega
theorem s7_one {a n v : Nat} (hn : n = 1 ∨ n = 2 ∨ n = 4 ∨ n = 8 ∨ n = 16 ∨ n = 32 ∨ n = 64) (ha : a % n = 0) : s7 (fun m => if a = v - v % m ∧ n = m then 1 else 0) = if a ≤ v ∧ v < a + n then 1 else 0 := by
  have h := mod_in (v := v) (show 0 < n by omega) ha
  unfold s7
  rcases hn with rfl | rfl | rfl | rfl | rfl | rfl | rfl <;> simp [← h]
theorem pc_sum {hi v : Nat} (hv : v < 64) (hh : hi < 64) : ∀ (f at_ : Nat), 64 ≤ at_ + f → s7 (fun n => pcC hi (v - v % n) n f at_) = if at_ ≤ v ∧ v ≤ hi then 1 else 0
  | 0, at_, hf => by
    rw [if_neg (by omega)]
    rfl
  | f + 1, at_, hf => by
    have hp := pieceN_pos at_ hi
    have ih := pc_sum hv hh f (at_ + pieceN at_ hi) (by omega)
    by_cases h : at_ ≤ hi
    · have hfit := pieceN_fit h
      obtain ⟨h7, hm⟩ := pieceN_ok at_ hi
      have e : (fun n => pcC hi (v - v % n) n (f + 1) at_) = fun n => (if at_ = v - v % n ∧ pieceN at_ hi = n then 1 else 0) + pcC hi (v - v % n) n f (at_ + pieceN at_ hi) := by
        funext n
        rw [pcC, if_pos h]
      rw [e, s7_add, ih, s7_one h7 hm]
      by_cases h1 : at_ ≤ v ∧ v < at_ + pieceN at_ hi
      · rw [if_pos h1, if_neg (by omega), if_pos (by omega)]
      · rw [if_neg h1]
        by_cases h2 : at_ + pieceN at_ hi ≤ v ∧ v ≤ hi
        · rw [if_pos h2, if_pos (by omega)]
        · rw [if_neg h2, if_neg (by omega)]
    · have e : (fun n => pcC hi (v - v % n) n (f + 1) at_) = fun _ => 0 := by
        funext n
        rw [pcC, if_neg h]
      rw [e, if_neg (by omega)]
      rfl
