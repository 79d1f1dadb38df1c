/-! ===== THE INDEX's COUNT, plain law: what the index counts of a product is its true plain tests ===== -/
theorem ite_cg {p q : Prop} [Decidable p] [Decidable q] {a b : Nat} (h : p ↔ q) : (if p then a else b) = if q then a else b := by
  by_cases hp : p
  · rw [if_pos hp, if_pos (h.mp hp)]
  · rw [if_neg hp, if_neg (fun c => hp (h.mpr c))]
def loN (S : St) (k : Nat) : Nat := (S 12 k).toNatClampNeg
def hiN (S : St) (k : Nat) : Nat := (S 13 k).toNatClampNeg
/-- how often a product stands in the list of a key, by its first tests -/
def ixN (S : St) (n a b i : Nat) : Nat → Nat
  | 0 => 0
  | t + 1 => ixN S n a b i t + (if S 14 (4 * i + t) = 0 ∧ nmN S (4 * i + t) = n then pcC (hiN S (4 * i + t)) a b 64 (loN S (4 * i + t)) else 0)
def relIX (S : St) (IX : IXt) : Prop := ∀ n a b, isKey n a b → ∀ i, (IX n a b).count i = ixN S n a b i (nt S i)
def tvN (S : St) (n v i : Nat) : Nat → Nat
  | 0 => 0
  | t + 1 => tvN S n v i t + (if S 14 (4 * i + t) = 0 ∧ nmN S (4 * i + t) = n ∧ loN S (4 * i + t) ≤ v ∧ v ≤ hiN S (4 * i + t) then 1 else 0)
/-- over the names below n -/
def nS (S : St) (IX : IXt) (i : Nat) : Nat → Nat
  | 0 => 0
  | n + 1 => nS S IX i n + (if S 3 n = -1 then 0 else cS IX n (S 3 n).toNatClampNeg i 7)
def dN (S : St) (i T : Nat) : Nat → Nat
  | 0 => 0
  | n + 1 => dN S i T n + (if S 3 n = -1 then 0 else tvN S n (S 3 n).toNatClampNeg i T)
theorem nI_nm1 {v : Nat} (hv : v < 2 ^ 31) : nI v ≠ -1 := fun h => by
  have h2 := congrArg Int32.toInt h
  rw [nI_toInt hv] at h2
  have e : (-1 : Int32).toInt = -1 := by decide
  rw [e] at h2
  omega
theorem InvA.lh {S : St} (hI : InvA S) {k : Nat} (hk : k < 240) : loN S k ≤ hiN S k ∧ hiN S k < 64 ∧ S 12 k = nI (loN S k) ∧ S 13 k = nI (hiN S k) := by
  obtain ⟨lo, hi, h1, h2, h3, h4⟩ := hI.2.2.2.2.1 k hk
  have e1 : loN S k = lo := by unfold loN; rw [h3, nI_clamp (by omega)]
  have e2 : hiN S k = hi := by unfold hiN; rw [h4, nI_clamp (by omega)]
  rw [e1, e2]
  exact ⟨h1, h2, h3, h4⟩
theorem s7_tv {S : St} (hI : InvA S) {n v i : Nat} (hv : v < 64) : ∀ T, 4 * i + T ≤ 240 → s7 (fun m => ixN S n (v - v % m) m i T) = tvN S n v i T
  | 0, _ => rfl
  | T + 1, hT => by
    obtain ⟨h1, h2, -, -⟩ := hI.lh (k := 4 * i + T) (by omega)
    have e : (fun m => ixN S n (v - v % m) m i (T + 1)) = fun m => ixN S n (v - v % m) m i T + (fun m => if S 14 (4 * i + T) = 0 ∧ nmN S (4 * i + T) = n then pcC (hiN S (4 * i + T)) (v - v % m) m 64 (loN S (4 * i + T)) else 0) m := rfl
    rw [e, s7_add, s7_tv hI hv T (by omega), tvN]
    congr 1
    by_cases hc : S 14 (4 * i + T) = 0 ∧ nmN S (4 * i + T) = n
    · simp only [if_pos hc]
      rw [pc_sum hv h2 64 _ (by omega)]
      by_cases hr : loN S (4 * i + T) ≤ v ∧ v ≤ hiN S (4 * i + T)
      · rw [if_pos hr, if_pos ⟨hc.1, hc.2, hr⟩]
      · rw [if_neg hr, if_neg (fun z => hr z.2.2)]
    · simp only [if_neg hc]
      rw [if_neg (fun z => hc ⟨z.1, z.2.1⟩)]
      rfl
theorem dN_step {S : St} {i T : Nat} : ∀ n, dN S i (T + 1) n = dN S i T n + (if nmN S (4 * i + T) < n ∧ S 14 (4 * i + T) = 0 ∧ S 3 (nmN S (4 * i + T)) ≠ -1 ∧ loN S (4 * i + T) ≤ (S 3 (nmN S (4 * i + T))).toNatClampNeg ∧ (S 3 (nmN S (4 * i + T))).toNatClampNeg ≤ hiN S (4 * i + T) then 1 else 0)
  | 0 => by
    rw [if_neg (fun z => Nat.not_lt_zero _ z.1)]
    rfl
  | n + 1 => by
    rw [dN, dN, dN_step n]
    by_cases h3 : S 3 n = -1
    · rw [if_pos h3, if_pos h3]
      have : (nmN S (4 * i + T) < n + 1 ∧ S 14 (4 * i + T) = 0 ∧ S 3 (nmN S (4 * i + T)) ≠ -1 ∧ loN S (4 * i + T) ≤ (S 3 (nmN S (4 * i + T))).toNatClampNeg ∧ (S 3 (nmN S (4 * i + T))).toNatClampNeg ≤ hiN S (4 * i + T)) ↔ (nmN S (4 * i + T) < n ∧ S 14 (4 * i + T) = 0 ∧ S 3 (nmN S (4 * i + T)) ≠ -1 ∧ loN S (4 * i + T) ≤ (S 3 (nmN S (4 * i + T))).toNatClampNeg ∧ (S 3 (nmN S (4 * i + T))).toNatClampNeg ≤ hiN S (4 * i + T)) := by
        constructor
        · rintro ⟨a, b, c, d⟩
          refine ⟨?_, b, c, d⟩
          rcases Nat.lt_succ_iff_lt_or_eq.mp a with a | a
          · exact a
          · rw [a] at c
            exact absurd h3 c
        · rintro ⟨a, b⟩
          exact ⟨by omega, b⟩
      simp only [this]
      omega
    · rw [if_neg h3, if_neg h3, tvN]
      by_cases hn : nmN S (4 * i + T) = n
      · rw [hn]
        rw [if_neg (fun z => Nat.lt_irrefl _ z.1)]
        by_cases hc : S 14 (4 * i + T) = 0 ∧ loN S (4 * i + T) ≤ (S 3 n).toNatClampNeg ∧ (S 3 n).toNatClampNeg ≤ hiN S (4 * i + T)
        · rw [if_pos ⟨hc.1, rfl, hc.2⟩, if_pos ⟨Nat.lt_succ_self n, hc.1, h3, hc.2⟩]
          omega
        · rw [if_neg (fun z => hc ⟨z.1, z.2.2⟩), if_neg (fun z => hc ⟨z.2.1, z.2.2.2⟩)]
          omega
      · rw [if_neg (c := S 14 (4 * i + T) = 0 ∧ nmN S (4 * i + T) = n ∧ loN S (4 * i + T) ≤ (S 3 n).toNatClampNeg ∧ (S 3 n).toNatClampNeg ≤ hiN S (4 * i + T)) (fun z => hn z.2.1)]
        rw [Nat.add_zero, Nat.add_right_comm]
        congr 1
        exact ite_cg ⟨fun z => ⟨by omega, z.2⟩, fun z => ⟨by omega, z.2⟩⟩
theorem dN_true {S : St} (hI : InvA S) {i : Nat} : ∀ T, 4 * i + T ≤ 240 → dN S i T 6 = trueN S i T
  | 0, _ => by
    have : ∀ n, dN S i 0 n = 0 := fun n => by
      induction n with
      | zero => rfl
      | succ n ih => rw [dN, ih]; split <;> rfl
    exact this 6
  | T + 1, hT => by
    obtain ⟨h1, h2, e1, e2⟩ := hI.lh (k := 4 * i + T) (by omega)
    obtain ⟨-, h6⟩ := hI.2.2.2.1 (4 * i + T) (by omega)
    rw [dN_step, dN_true hI T (by omega), trueN]
    congr 1
    have hd := hI.2.2.2.2.2.2.2 (nmN S (4 * i + T)) h6
    refine ite_cg ?_
    unfold tstB
    rw [e1, e2]
    rcases hd with hd | ⟨v, hv, hd⟩
    · rw [hd]
      simp
    · rw [hd, nI_clamp (by omega)]
      have h3 : nI v ≠ -1 := nI_nm1 (by omega)
      have e3 : nI (loN S (4 * i + T)) ≤ nI v ↔ loN S (4 * i + T) ≤ v := nI_leI (by omega) (by omega)
      have e4 : nI v ≤ nI (hiN S (4 * i + T)) ↔ v ≤ hiN S (4 * i + T) := nI_leI (by omega) (by omega)
      simp only [e3, e4, h3, ne_eq, not_false_eq_true, decide_true, Bool.true_and]
      constructor
      · rintro ⟨-, a, -, b, c⟩
        refine ⟨a, ?_⟩
        simp [a, b, c]
      · rintro ⟨a, b⟩
        simp [a] at b
        exact ⟨h6, a, trivial, b.1, b.2⟩
/-- what matchingByIndex has counted of a product -/
theorem nS_true {S : St} {IX : IXt} (hI : InvA S) (hR : relIX S IX) {i : Nat} (hi : i < 60) (h4 : nt S i ≤ 4) : nS S IX i 6 = trueN S i (nt S i) := by
  rw [← dN_true hI (nt S i) (by omega)]
  have : ∀ n, n ≤ 6 → nS S IX i n = dN S i (nt S i) n := fun n => by
    induction n with
    | zero => intro _; rfl
    | succ n ih =>
      intro hn
      rw [nS, dN, ih (by omega)]
      congr 1
      by_cases h3 : S 3 n = -1
      · rw [if_pos h3, if_pos h3]
      · rw [if_neg h3, if_neg h3]
        rcases hI.2.2.2.2.2.2.2 n (by omega) with hd | ⟨v, hv, hd⟩
        · exact absurd hd h3
        · rw [hd, nI_clamp (by omega), cS_7, ← s7_tv hI hv _ (by omega)]
          have hk : ∀ m, m = 1 ∨ m = 2 ∨ m = 4 ∨ m = 8 ∨ m = 16 ∨ m = 32 ∨ m = 64 → isKey n (v - v % m) m := by
            rintro m (rfl | rfl | rfl | rfl | rfl | rfl | rfl)
            · exact isKey_cnt (j := 0) (by omega) hv (by decide)
            · exact isKey_cnt (j := 1) (by omega) hv (by decide)
            · exact isKey_cnt (j := 2) (by omega) hv (by decide)
            · exact isKey_cnt (j := 3) (by omega) hv (by decide)
            · exact isKey_cnt (j := 4) (by omega) hv (by decide)
            · exact isKey_cnt (j := 5) (by omega) hv (by decide)
            · exact isKey_cnt (j := 6) (by omega) hv (by decide)
          unfold s7
          simp only [hR n _ _ (hk 1 (by decide)) i, hR n _ _ (hk 2 (by decide)) i, hR n _ _ (hk 4 (by decide)) i, hR n _ _ (hk 8 (by decide)) i, hR n _ _ (hk 16 (by decide)) i, hR n _ _ (hk 32 (by decide)) i, hR n _ _ (hk 64 (by decide)) i]
  exact this 6 (Nat.le_refl _)
/-! lay adds the pieces of its range -/
theorem ixAdd_count {IX : IXt} {n a b i : Nat} (n' a' b' j : Nat) : (ixAdd IX n a b i n' a' b').count j = (IX n' a' b').count j + (if j = i ∧ n' = n ∧ a = a' ∧ b = b' then 1 else 0) := by
  unfold ixAdd
  by_cases h : n' = n ∧ a' = a ∧ b' = b
  · rw [if_pos h, List.count_append, List.count_singleton]
    congr 1
    by_cases e : j = i
    · rw [if_pos (by simp [e]), if_pos ⟨e, h.1, h.2.1.symm, h.2.2.symm⟩]
    · rw [if_neg (by simpa using Ne.symm e), if_neg (fun z => e z.1)]
  · rw [if_neg h, if_neg (fun z => h ⟨z.2.1, z.2.2.1.symm, z.2.2.2.symm⟩)]
    rfl
theorem layF_count {hi n i : Nat} (n' a' b' j : Nat) : ∀ (f at_ : Nat) (IX : IXt), (layF hi n i f at_ IX n' a' b').count j = (IX n' a' b').count j + (if j = i ∧ n' = n then pcC hi a' b' f at_ else 0)
  | 0, at_, IX => by
    unfold layF pcC
    rw [ite_self]
    rfl
  | f + 1, at_, IX => by
    unfold layF pcC
    by_cases h : at_ ≤ hi
    · rw [if_pos h, if_pos h, layF_count n' a' b' j f, ixAdd_count, Nat.add_assoc]
      congr 1
      by_cases hc : j = i ∧ n' = n
      · rw [if_pos hc, if_pos hc]
        congr 1
        exact ite_cg ⟨fun z => ⟨z.2.2.1, z.2.2.2⟩, fun z => ⟨hc.1, hc.2, z.1, z.2⟩⟩
      · rw [if_neg hc, if_neg hc, if_neg (fun z => hc ⟨z.1, z.2.1⟩)]
    · rw [if_neg h, if_neg h, ite_self]
      rfl
theorem layF_len {hi n i : Nat} : ∀ (f at_ : Nat) (IX : IXt) (M : Nat), (∀ n a b, (IX n a b).length ≤ M) → ∀ n' a' b', (layF hi n i f at_ IX n' a' b').length ≤ M + piecesN hi f at_
  | 0, at_, IX, M, h, n', a', b' => h n' a' b'
  | f + 1, at_, IX, M, h, n', a', b' => by
    unfold layF piecesN
    by_cases hc : at_ ≤ hi
    · rw [if_pos hc, if_pos hc]
      have := layF_len (hi := hi) (n := n) (i := i) f (at_ + pieceN at_ hi) _ (M + 1) (ixAdd_len (n := n) (a := at_) (b := pieceN at_ hi) (i := i) h) n' a' b'
      omega
    · rw [if_neg hc, if_neg hc]
      exact h n' a' b'
theorem layF_mem {hi n i : Nat} {V : Nat → Prop} (hi' : V i) : ∀ (f at_ : Nat) (IX : IXt), (∀ n a b j, j ∈ IX n a b → V j) → ∀ n' a' b' j, j ∈ layF hi n i f at_ IX n' a' b' → V j
  | 0, at_, IX, h => h
  | f + 1, at_, IX, h => by
    unfold layF
    by_cases hc : at_ ≤ hi
    · rw [if_pos hc]
      exact layF_mem hi' f _ _ (ixAdd_mem h hi')
    · rw [if_neg hc]
      exact h
theorem pieces_10 : ∀ lo, lo < 64 → ∀ hi, hi < 64 → piecesN hi 64 lo ≤ 10 := by decide +kernel
