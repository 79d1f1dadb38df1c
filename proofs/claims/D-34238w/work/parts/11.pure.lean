/-! ===== THE STATE, as numbers: S k j is place j of the reference's k-th field (1 minute, 2 questions, 3 draft, 4 isDropped, 5 products, 6 quiets, 7 untils, 8 alerts, 9 batches, 10 tests, 11 names, 12 lows, 13 highs, 14 isBarred) ===== -/
abbrev St : Type := Nat → Nat → Int32
def up2 (S : St) (k j : Nat) (v : Int32) : St := fun a b => if a = k ∧ b = j then v else S a b
theorem up2_s {S : St} {k j : Nat} {v : Int32} : up2 S k j v k j = v := if_pos ⟨rfl, rfl⟩
theorem up2_k {S : St} {k j a b : Nat} {v : Int32} (h : a ≠ k) : up2 S k j v a b = S a b := if_neg (fun q => h q.1)
theorem up2_j {S : St} {k j a b : Nat} {v : Int32} (h : b ≠ j) : up2 S k j v a b = S a b := if_neg (fun q => h q.2)
theorem up2_row {S : St} {k j : Nat} {v : Int32} : up2 S k j v k = upd (S k) j v := by
  funext b
  by_cases h : b = j
  · subst h; rw [up2_s, upd, if_pos rfl]
  · rw [up2_j h, upd, if_neg h]
theorem up2_rowk {S : St} {k j a : Nat} {v : Int32} (h : a ≠ k) : up2 S k j v a = S a := funext fun _ => up2_k h
def bI (b : Bool) : Int32 := if b then 1 else 0
theorem bI_t : bI true = 1 := rfl
theorem bI_f : bI false = 0 := rfl
theorem bI_0 {b : Bool} : bI b = 0 ↔ b = false := by cases b <;> decide
theorem bI_n0 {b : Bool} : ¬ bI b = 0 ↔ b = true := by cases b <;> decide
theorem bI_nar (b : Bool) : narrow .boolean (.int (bI b)) = .int (bI b) := by cases b <;> rfl
def nq (S : St) : Nat := (S 2 0).toNatClampNeg
def np (S : St) (q : Nat) : Nat := (S 5 q).toNatClampNeg
def nt (S : St) (i : Nat) : Nat := (S 10 i).toNatClampNeg
def nmN (S : St) (k : Nat) : Nat := (S 11 k).toNatClampNeg
/-- what holds of the state all through: places and bounds -/
def InvA (S : St) : Prop :=
  (S 2 0 = nI (nq S) ∧ nq S ≤ 20) ∧
  (∀ q, q < 20 → S 5 q = nI (np S q) ∧ np S q ≤ 3) ∧
  (∀ i, i < 60 → S 10 i = nI (nt S i) ∧ nt S i ≤ 4) ∧
  (∀ k, k < 240 → S 11 k = nI (nmN S k) ∧ nmN S k < 6) ∧
  (∀ k, k < 240 → ∃ lo hi : Nat, lo ≤ hi ∧ hi < 64 ∧ S 12 k = nI lo ∧ S 13 k = nI hi) ∧
  (∀ k, k < 240 → S 14 k = 0 ∨ S 14 k = 1) ∧
  (∀ q, q < 20 → S 4 q = 0 ∨ S 4 q = 1) ∧
  (∀ j, j < 6 → S 3 j = -1 ∨ ∃ v : Nat, v < 64 ∧ S 3 j = nI v)
/-- .. and of time, n calls made -/
def InvB (S : St) (n : Nat) : Prop :=
  (∃ M : Nat, M ≤ 1000000 ∧ S 1 0 = nI M) ∧
  (∀ q, q < 20 → ∃ u : Nat, u ≤ 1000 ∧ S 6 q = nI u) ∧
  (∀ q, q < 20 → ∃ u : Nat, u ≤ 1001000 ∧ S 7 q = nI u) ∧
  (∀ q, q < 20 → ∃ b : Nat, b ≤ n ∧ S 9 q = nI b) ∧
  (∀ q, q < nq S → S 4 q = 0 → ¬ S 1 0 < S 7 q → S 9 q = 0)
/-- the same rows but for time and counts -/
def SameA (S S' : St) : Prop := S' 2 = S 2 ∧ S' 3 = S 3 ∧ S' 4 = S 4 ∧ S' 5 = S 5 ∧ S' 10 = S 10 ∧ S' 11 = S 11 ∧ S' 12 = S 12 ∧ S' 13 = S 13 ∧ S' 14 = S 14
theorem SameA.rf {S : St} : SameA S S := ⟨rfl, rfl, rfl, rfl, rfl, rfl, rfl, rfl, rfl⟩
theorem SameA.tr {S S1 S2 : St} (h : SameA S S1) (k : SameA S1 S2) : SameA S S2 := by
  obtain ⟨a1, a2, a3, a4, a5, a6, a7, a8, a9⟩ := h
  obtain ⟨b1, b2, b3, b4, b5, b6, b7, b8, b9⟩ := k
  exact ⟨b1.trans a1, b2.trans a2, b3.trans a3, b4.trans a4, b5.trans a5, b6.trans a6, b7.trans a7, b8.trans a8, b9.trans a9⟩
theorem SameA.up {S : St} {k j : Nat} {v : Int32} (hk : k = 1 ∨ k = 6 ∨ k = 7 ∨ k = 8 ∨ k = 9) : SameA S (up2 S k j v) := by
  refine ⟨?_, ?_, ?_, ?_, ?_, ?_, ?_, ?_, ?_⟩ <;> exact up2_rowk (by omega)
theorem SameA.inv {S S' : St} (h : SameA S S') (hI : InvA S) : InvA S' := by
  obtain ⟨a1, a2, a3, a4, a5, a6, a7, a8, a9⟩ := h
  unfold InvA nq np nt nmN at *
  rw [a1, a2, a3, a4, a5, a6, a7, a8, a9]
  exact hI
/-- the question stands, and isn't dropped -/
def isQ (S : St) (q : Int32) : Bool := decide (0 ≤ q) && decide (q ≤ S 2 0 - 1) && decide (S 4 q.toNatClampNeg = 0)
theorem nI_of_range {q : Int32} {n : Nat} (hn : n < 2 ^ 31) (h0 : 0 ≤ q) (h1 : q ≤ nI n - 1) : ∃ i, i < n ∧ q = nI i := by
  have h2 := Int32.le_iff_toInt_le.mp h0
  have h3 := Int32.le_iff_toInt_le.mp h1
  rw [Int32.toInt_zero] at h2
  cases n with
  | zero =>
    exfalso
    rw [show nI 0 - 1 = -1 from rfl] at h3
    rw [show ((-1 : Int32).toInt) = -1 from rfl] at h3
    omega
  | succ n =>
    rw [nI_pred, nI_toInt (by omega)] at h3
    refine ⟨q.toInt.toNat, by omega, ?_⟩
    apply Int32.toInt_inj.mp
    rw [nI_toInt (by omega)]
    omega
theorem isQ_iff {S : St} (h : InvA S) {q : Int32} : isQ S q = true ↔ ∃ i, i < nq S ∧ q = nI i ∧ S 4 i = 0 := by
  obtain ⟨⟨h2, hn⟩, -⟩ := h
  simp only [isQ, Bool.and_eq_true, decide_eq_true_eq]
  constructor
  · rintro ⟨⟨a, b⟩, c⟩
    rw [h2] at b
    obtain ⟨i, hi, e⟩ := nI_of_range (by omega) a b
    refine ⟨i, hi, e, ?_⟩
    rw [e, nI_clamp (by omega)] at c
    exact c
  · rintro ⟨i, hi, rfl, hd⟩
    rw [nI_clamp (by omega)]
    refine ⟨⟨nI_pos' (by omega), ?_⟩, hd⟩
    rw [h2]
    cases hq : nq S with
    | zero => omega
    | succ k => rw [nI_pred]; exact nI_le (by omega) (by omega)
/-- a test's place k: whether it is true of the draft -/
def tstB (S : St) (k : Nat) : Bool := (decide (S 3 (nmN S k) ≠ -1) && decide (S 12 k ≤ S 3 (nmN S k)) && decide (S 3 (nmN S k) ≤ S 13 k)) != decide (S 14 k ≠ 0)
def prodB (S : St) (i : Nat) : Bool := (List.range (nt S i)).all fun t => tstB S (4 * i + t)
def doesB (S : St) (q : Nat) : Bool := (List.range (np S q)).any fun p => prodB S (3 * q + p)
theorem all_step (f : Nat → Bool) (n : Nat) : (List.range (n + 1)).all f = ((List.range n).all f && f n) := by
  rw [List.range_succ, List.all_append]; simp
theorem any_step (f : Nat → Bool) (n : Nat) : (List.range (n + 1)).any f = ((List.range n).any f || f n) := by
  rw [List.range_succ, List.any_append]; simp
/-- plain tests of a product -/
def plainN (S : St) (i : Nat) : Nat → Nat
  | 0 => 0
  | t + 1 => plainN S i t + (if S 14 (4 * i + t) = 0 then 1 else 0)
/-- the least of its products' numbers of plain tests -/
def leastN (S : St) (q : Nat) : Nat → Nat
  | 0 => if np S q = 0 then 0 else 4
  | p + 1 => if plainN S (3 * q + p) (nt S (3 * q + p)) < leastN S q p then plainN S (3 * q + p) (nt S (3 * q + p)) else leastN S q p
def sizeN (S : St) (q : Nat) : Nat := leastN S q (np S q)
def raisesS (S : St) (q : Nat) : St := up2 (up2 S 8 q (S 8 q + 1)) 7 q (S 1 0 + S 6 q)
/-- whether question q is active and does -/
def actB (S : St) (q : Nat) : Bool := decide (S 4 q = 0) && doesB S q
def bitN (q : Nat) : Int32 := (1 : Int32) <<< (nI q &&& 31)
def comeS (S : St) : Nat → St × Int32
  | 0 => (S, 0)
  | q + 1 =>
    let r := comeS S q
    if actB r.1 q then (if r.1 1 0 < r.1 7 q then (up2 r.1 9 q (r.1 9 q + 1), r.2) else (raisesS r.1 q, r.2 ||| bitN q)) else r
def foundS (S : St) : Nat → Int32
  | 0 => 0
  | q + 1 => foundS S q ||| (if actB S q then bitN q else 0)
def withS (S : St) (z : Int32) : Nat → Nat
  | 0 => 0
  | q + 1 => withS S z q + (if S 4 q = 0 ∧ nI (sizeN S q) = z then 1 else 0)
/-- one minute: the questions below q -/
def tickS (S : St) (n : Int32) : Nat → St × Int32
  | 0 => (up2 S 1 0 (S 1 0 + 1), n)
  | q + 1 =>
    let r := tickS S n q
    if S 4 q = 0 ∧ r.1 1 0 = r.1 7 q ∧ 0 < r.1 9 q then (raisesS (up2 r.1 9 q 0) q, r.2 + 1) else r
def advS (S : St) : Nat → St × Int32
  | 0 => (S, 0)
  | k + 1 => tickS (advS S k).1 (advS S k).2 (nq S)
/-- the length of the first piece of first..last -/
def pieceN (first last : Nat) : Nat := [2, 4, 8, 16, 32, 64].foldl (fun l t => if first % t = 0 ∧ first + t - 1 ≤ last then t else l) 1
theorem pieceN_pos (a b : Nat) : 0 < pieceN a b := by
  unfold pieceN
  simp only [List.foldl_cons, List.foldl_nil]
  repeat' split
  all_goals omega
def piecesN (hi : Nat) : Nat → Nat → Nat
  | 0, _ => 0
  | f + 1, at_ => if at_ ≤ hi then piecesN hi f (at_ + pieceN at_ hi) + 1 else 0
def pieceAtN (hi k : Nat) : Nat → Nat → Nat → Int32
  | 0, _, _ => -1
  | f + 1, at_, n => if at_ ≤ hi then (if n = k then nI (100 * at_ + pieceN at_ hi) else pieceAtN hi k f (at_ + pieceN at_ hi) (n + 1)) else -1

theorem SameA.nq {S S' : St} (h : SameA S S') : nq S' = nq S := by show (S' 2 0).toNatClampNeg = (S 2 0).toNatClampNeg; rw [h.1]
theorem SameA.acts {S S' : St} (h : SameA S S') (q : Nat) : doesB S' q = doesB S q ∧ actB S' q = actB S q := by
  obtain ⟨a1, a2, a3, a4, a5, a6, a7, a8, a9⟩ := h
  have e1 : ∀ k, tstB S' k = tstB S k := fun k => by unfold tstB nmN; rw [a2, a6, a7, a8, a9]
  have e2 : ∀ i, prodB S' i = prodB S i := fun i => by unfold prodB nt; rw [a5]; simp only [e1]
  have e3 : doesB S' q = doesB S q := by unfold doesB np; rw [a4]; simp only [e2]
  exact ⟨e3, by unfold actB; rw [e3, a3]⟩
theorem raisesS_same {S : St} {q : Nat} : SameA S (raisesS S q) := (SameA.up (by omega)).tr (SameA.up (by omega))
theorem comeS_same {S : St} : ∀ q, SameA S (comeS S q).1
  | 0 => SameA.rf
  | q + 1 => by
    unfold comeS
    dsimp only
    split
    · split
      · exact (comeS_same q).tr (SameA.up (by omega))
      · exact (comeS_same q).tr raisesS_same
    · exact comeS_same q
theorem tickS_same {S : St} {n : Int32} : ∀ q, SameA S (tickS S n q).1
  | 0 => SameA.up (by omega)
  | q + 1 => by
    unfold tickS
    dsimp only
    split
    · exact (tickS_same q).tr ((SameA.up (by omega)).tr raisesS_same)
    · exact tickS_same q
theorem advS_same {S : St} : ∀ k, SameA S (advS S k).1
  | 0 => SameA.rf
  | k + 1 => (advS_same k).tr (tickS_same _)
