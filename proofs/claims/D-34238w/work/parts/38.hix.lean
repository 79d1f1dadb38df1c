/-! ===== HASHMAP: places of the table, its state ===== -/
def ix (e : Nat) (h : Int32) : Nat := h.toBitVec.toNat % 2 ^ e
theorem two_lt {e : Nat} (h : e < 30) : 2 ^ e < 2 ^ 30 := Nat.pow_lt_pow_right (by omega) h
theorem ix_lt (e : Nat) (h : Int32) : ix e h < 2 ^ e := Nat.mod_lt _ (Nat.two_pow_pos e)
theorem ix_mask {e : Nat} (he : e < 30) (h : Int32) : (nI (2 ^ e) - 1) &&& h = nI (ix e h) := by
  have h1 := two_lt he
  have h0 := Nat.two_pow_pos e
  have e1 : nI (2 ^ e) - 1 = nI (2 ^ e - 1) := pk_sub (b := 1) h0
  rw [e1, Int32.and_comm]
  exact pk_and h e (pk_tn (by omega))
theorem ix_maskC {e : Nat} (he : e < 30) (h : Int32) : h &&& (nI (2 ^ e) - 1) = nI (ix e h) := by
  rw [Int32.and_comm]
  exact ix_mask he h
theorem nat_and2 (n e : Nat) : n &&& 2 ^ e = (n.testBit e).toNat * 2 ^ e := by
  apply Nat.eq_of_testBit_eq
  intro i
  rw [Nat.testBit_and, Nat.testBit_two_pow]
  cases hb : n.testBit e
  · simp
    intro h
    by_cases hi : e = i
    · subst hi
      rw [hb] at h
      cases h
    · exact hi
  · simp [Nat.testBit_two_pow]
    intro h
    subst h
    exact hb
theorem nat_mod2 (n e : Nat) : n % 2 ^ (e + 1) = n % 2 ^ e + 2 ^ e * (n.testBit e).toNat := by
  rw [Nat.pow_succ, Nat.mod_mul, Nat.testBit_eq_decide_div_mod_eq]
  by_cases h : n / 2 ^ e % 2 = 1
  · simp [h]
  · have : n / 2 ^ e % 2 = 0 := by omega
    simp [this]
theorem ix_succ {e : Nat} (he : e < 30) (h : Int32) : (h &&& nI (2 ^ e) = 0 → ix (e + 1) h = ix e h) ∧ (¬ h &&& nI (2 ^ e) = 0 → ix (e + 1) h = ix e h + 2 ^ e) := by
  have h1 := two_lt he
  have h0 := Nat.two_pow_pos e
  have e1 : (h &&& nI (2 ^ e)).toBitVec.toNat = (h.toBitVec.toNat.testBit e).toNat * 2 ^ e := by
    rw [Int32.toBitVec_and, BitVec.toNat_and, pk_tn (by omega), nat_and2]
  have e2 : ix (e + 1) h = ix e h + 2 ^ e * (h.toBitVec.toNat.testBit e).toNat := nat_mod2 _ _
  constructor
  · intro hz
    rw [hz] at e1
    have : (0 : Int32).toBitVec.toNat = 0 := rfl
    rw [this] at e1
    cases hb : h.toBitVec.toNat.testBit e with
    | false => rw [hb] at e2; simpa using e2
    | true => rw [hb] at e1; simp at e1; omega
  · intro hz
    cases hb : h.toBitVec.toNat.testBit e with
    | false =>
      exfalso
      rw [hb] at e1
      apply hz
      apply Int32.toBitVec_inj.mp
      apply BitVec.eq_of_toNat_eq
      rw [e1]
      simp
    | true => rw [hb] at e2; simpa using e2
def inBk (e i : Nat) (d : Dt) : Bool := decide (ix e d.1 = i)
