/-! ===== ALERTINDEX: the full state as one ===== -/
section FULL
variable {g : Gx} {w w' : Wd} {S S' : St}
def isFS (g : Gx) (w : Wd) (a : Nat) (S : St) (N lq d mm li : Nat) (qs : List Nat) (LQ P LT : Nat → Nat) (X : List Nat) (E : List Dt) (IX : IXt) : Prop := isBs g w a S lq d mm li qs LQ P LT X ∧ isIX g w mm E IX P ∧ relIX S IX ∧ (∀ n a b j, j ∈ IX n a b → vP S j) ∧ E.length ≤ 10 * N ∧ ∀ n a b, (IX n a b).length ≤ 10 * N
/-- the class's object a stands for the state S, N calls made -/
def FS (g : Gx) (w : Wd) (a : Nat) (S : St) (N : Nat) : Prop := ∃ lq d mm li qs LQ P LT X E IX, isFS g w a S N lq d mm li qs LQ P LT X E IX
theorem FS.le {a N M : Nat} (h : FS g w a S N) (hm : N ≤ M) : FS g w a S M := by
  obtain ⟨lq, d, mm, li, qs, LQ, P, LT, X, E, IX, h1, h2, h3, h4, h5, h6⟩ := h
  exact ⟨lq, d, mm, li, qs, LQ, P, LT, X, E, IX, h1, h2, h3, h4, by omega, fun n a b => by have := h6 n a b; omega⟩
/-- what lies outside changes -/
theorem FS.out {a N : Nat} (h : FS g w a S N) (hF : ∀ b y t, w b = some (y, t) → (4 ≤ t ∧ t ≤ 19) ∨ 1000 ≤ t → w' b = some (y, t)) : FS g w' a S N := by
  obtain ⟨lq, d, mm, li, qs, LQ, P, LT, X, E, IX, h1, h2, h3, h4, h5, h6⟩ := h
  refine ⟨lq, d, mm, li, qs, LQ, P, LT, X, E, IX, h1.frX (FrX.of (fun b y t hb hc => hF b y t hb ?_)), h2.keep ⟨fun b y t hb hc => hF b y t hb ?_, fun b xs hs => ?_⟩, h3, h4, h5, h6⟩
  · rcases hc with hc | ⟨_, _, _, c, _⟩ <;> omega
  · rcases hc with hc | hc | hc | ⟨_, _, c, _⟩ <;> omega
  · obtain ⟨v, f, h0, m1, m2, m3⟩ := hs
    exact ⟨v, f, h0, hF _ _ _ m1 (by decide), hF _ _ _ m2 (by decide), m3⟩
theorem FrD.I (hF : FrD w w') : FrI g w w' := ⟨fun b y t hb hc => hF.1 b y t hb (by rcases hc with c | c | c | ⟨_, _, c, _⟩ <;> omega) (by rcases hc with c | c | c | ⟨_, _, c, _⟩ <;> omega) (by rcases hc with c | c | c | ⟨_, _, c, _⟩ <;> omega), fun b xs hs => by
  obtain ⟨v, f, h0, m1, m2, m3⟩ := hs
  exact ⟨v, f, h0, hF.1 _ _ _ m1 (by decide) (by decide) (by decide), hF.1 _ _ _ m2 (by decide) (by decide) (by decide), m3⟩⟩
theorem FrD.O (hF : FrD w w') : FrO w w' := fun b y t hb hc => hF.1 b y t hb (by omega) (by omega) (by omega)
theorem ixN_cg {n a b i : Nat} : ∀ T, (∀ t, t < T → S' 14 (4 * i + t) = S 14 (4 * i + t) ∧ S' 11 (4 * i + t) = S 11 (4 * i + t) ∧ S' 12 (4 * i + t) = S 12 (4 * i + t) ∧ S' 13 (4 * i + t) = S 13 (4 * i + t)) → ixN S' n a b i T = ixN S n a b i T
  | 0, _ => rfl
  | T + 1, h => by
    obtain ⟨h1, h2, h3, h4⟩ := h T (Nat.lt_succ_self T)
    unfold ixN nmN hiN loN
    rw [ixN_cg T (fun t ht => h t (by omega)), h1, h2, h3, h4]
theorem relIX.cg {IX : IXt} (h : relIX S IX) (hS : ∀ r, 10 ≤ r → r ≤ 14 → S' r = S r) : relIX S' IX := fun n a b hk i => by
  rw [h n a b hk i]
  have e : nt S' i = nt S i := by unfold nt; rw [hS 10 (by decide) (by decide)]
  rw [e]
  refine (ixN_cg (nt S i) (fun t _ => ?_)).symm
  rw [hS 14 (by decide) (by decide), hS 11 (by decide) (by decide), hS 12 (by decide) (by decide), hS 13 (by decide) (by decide)]
  exact ⟨rfl, rfl, rfl, rfl⟩
theorem isFS.dyn {a N lq d mm li : Nat} {qs : List Nat} {LQ P LT : Nat → Nat} {X : List Nat} {E : List Dt} {IX : IXt} (h : isFS g w a S N lq d mm li qs LQ P LT X E IX) (hA : isAb g w' a S' lq d mm li qs) (hF : FrD w w') (hS : StS S S') : FS g w' a S' (N + 1) := by
  obtain ⟨h1, h2, h3, h4, h5, h6⟩ := h
  refine ⟨lq, d, mm, li, qs, LQ, P, LT, X, E, IX, h1.dyn hA hF hS, h2.keep hF.I, h3.cg (fun r hr1 hr2 => ?_), fun n a b j hj => (hS.vPi j).mpr (h4 n a b j hj), by omega, fun n a b => by have := h6 n a b; omega⟩
  obtain ⟨-, -, s10, s11, s12, s13, s14⟩ := hS
  have : r = 10 ∨ r = 11 ∨ r = 12 ∨ r = 13 ∨ r = 14 := by omega
  rcases this with rfl | rfl | rfl | rfl | rfl <;> assumption
theorem isFS.quest {a N lq d mm li q l : Nat} {qs : List Nat} {LQ P LT : Nat → Nat} {X : List Nat} {E : List Dt} {IX : IXt} {fs : List Value} (h : isFS g w a S N lq d mm li qs LQ P LT X E IX) (hI : Inv S N) (hA : isAb g w' a (questS S) lq d mm li (qs ++ [q])) (hF : FrQ w w' lq l) (hq0 : w q = none) (hl0 : w l = none) (hq' : w' q = some (ob 2 (.ref l :: fs), 14)) : FS g w' a (questS S) (N + 1) ∧ FrO w w' := by
  obtain ⟨h1, h2, h3, h4, h5, h6⟩ := h
  have n1 := hI.1.1.1
  have n2 := hI.1.1.2
  have hz := hI.2.2.zq.2.1
  obtain ⟨r1, r2⟩ := h1.question n1 (by omega) hz hA hF hq0 hl0 hq'
  have hN := hF.N hl0
  exact ⟨⟨lq, d, mm, li, qs ++ [q], _, P, LT, X, E, IX, r1, h2.keep (hN.I r2), h3.cg (fun r hr1 hr2 => by unfold questS; funext b; exact up2_k (by omega)), fun n a b j hj => (questS_vP n1 (by omega) hz j).mpr (h4 n a b j hj), by omega, fun n a b => by have := h6 n a b; omega⟩, hN.O r2⟩
theorem isFS.X60 {a N lq d mm li : Nat} {qs : List Nat} {LQ P LT : Nat → Nat} {X : List Nat} {E : List Dt} {IX : IXt} (h : isFS g w a S N lq d mm li qs LQ P LT X E IX) (hI : InvA S) : X.length ≤ 60 ∧ qs.length ≤ 20 := by
  obtain ⟨h1, -⟩ := h
  refine ⟨X_le h1.2.2.2.2.2.2.2.2.2.2.2.1 (fun i hi => ?_), by rw [h1.2.2.2.1]; exact hI.1.2⟩
  have hv := (h1.2.2.2.2.2.2.2.2.2.2.2.2.1 i).mp hi
  have := hv.1
  have := hI.1.2
  omega
theorem isFS.prod {a N lq d mm li i : Nat} {qs : List Nat} {LQ P LT P' LT' : Nat → Nat} {X X' : List Nat} {E : List Dt} {IX : IXt} (h : isFS g w a S N lq d mm li qs LQ P LT X E IX) (hB : isBs g w' a (prodS S i) lq d mm li qs LQ P' LT' X') (hX : isIX g w' mm E IX P') (hI : InvA S) (hi : i < nq S) (h3 : np S i < 3) : FS g w' a (prodS S i) (N + 1) := by
  obtain ⟨h1, h2, h3', h4, h5, h6⟩ := h
  have n2 := hI.1.2
  exact ⟨lq, d, mm, li, qs, LQ, P', LT', X', E, IX, hB, hX, h3'.cg (fun r hr1 hr2 => by unfold prodS; funext b; exact up2_k (by omega)), fun n a b j hj => (prodS_vP (hI.2.1 i (by omega)).1 h3 hi j).mpr (Or.inl (h4 n a b j hj)), by omega, fun n a b => by have := h6 n a b; omega⟩
theorem relIX.test {IX : IXt} {i0 nm lo hi : Nat} (h : relIX S IX) (hS : StT S S' i0) (h4 : ∀ i, nt S i ≤ 4) (h44 : nt S i0 < 4) (s11 : S' 11 (4 * i0 + nt S i0) = nI nm) (s12 : S' 12 (4 * i0 + nt S i0) = nI lo) (s13 : S' 13 (4 * i0 + nt S i0) = nI hi) (hnm : nm < 6) (hl : lo < 64) (hh : hi < 64) : relIX S' (if S' 14 (4 * i0 + nt S i0) = 0 then layF hi nm i0 64 lo IX else IX) := fun n a b hk i => by
  have hold : ixN S' n a b i (nt S i) = ixN S n a b i (nt S i) := ixN_cg _ (fun t ht => by
    have hne : 4 * i + t ≠ 4 * i0 + nt S i0 := by
      have := h4 i
      by_cases c : i = i0
      · rw [c] at ht ⊢
        omega
      · omega
    exact ⟨hS.2.2 14 _ (by decide) (by decide) hne, hS.2.2 11 _ (by decide) (by decide) hne, hS.2.2 12 _ (by decide) (by decide) hne, hS.2.2 13 _ (by decide) (by decide) hne⟩)
  have hrel := h n a b hk i
  have e11 : nmN S' (4 * i0 + nt S i0) = nm := by unfold nmN; rw [s11, nI_clamp (by omega)]
  have e12 : loN S' (4 * i0 + nt S i0) = lo := by unfold loN; rw [s12, nI_clamp (by omega)]
  have e13 : hiN S' (4 * i0 + nt S i0) = hi := by unfold hiN; rw [s13, nI_clamp (by omega)]
  rw [hS.2.1]
  by_cases c : i = i0
  · subst c
    rw [if_pos rfl, ixN, hold, ← hrel, e11, e12, e13]
    by_cases c14 : S' 14 (4 * i + nt S i) = 0
    · rw [if_pos c14, layF_count]
      congr 1
      exact ite_cg ⟨fun z => ⟨c14, z.2.symm⟩, fun z => ⟨rfl, z.2.symm⟩⟩
    · rw [if_neg c14, if_neg (fun z => c14 z.1)]
      rfl
  · rw [if_neg c, hold, ← hrel]
    by_cases c14 : S' 14 (4 * i0 + nt S i0) = 0
    · rw [if_pos c14, layF_count, if_neg (fun z => c z.1)]
      rfl
    · rw [if_neg c14]
theorem isFS.test {a N lq d mm li q nm lo hi : Nat} {b : Int32} {qs : List Nat} {LQ P LT : Nat → Nat} {X : List Nat} {E E' : List Dt} {IX : IXt} (h : isFS g w a S N lq d mm li qs LQ P LT X E IX) (hI : Inv S N) (hq : q < nq S) (hnp : 0 < np S q) (h44 : nt S (lastN S q) < 4) (hnm : nm < 6) (hl : lo ≤ hi) (hh : hi < 64) (hb : b = 0 ∨ b = 1) (hB : isBs g w' a (testS S q (nI nm) (nI lo) (nI hi) b) lq d mm li qs LQ P LT X) (hX : isIX g w' mm E' (if b = 0 then layF hi nm (lastN S q) 64 lo IX else IX) P) (hE : E'.length ≤ E.length + 10) : FS g w' a (testS S q (nI nm) (nI lo) (nI hi) b) (N + 1) ∧ Inv (testS S q (nI nm) (nI lo) (nI hi) b) N := by
  obtain ⟨h1, h2, h3, h4, h5, h6⟩ := h
  obtain ⟨hA, hIB, hZ⟩ := id hI
  have hn2 := hA.1.2
  have hnp3 := (hA.2.1 q (by omega)).2
  have hi60 : lastN S q < 60 := by show 3 * q + np S q - 1 < 60; omega
  have h10 := (hA.2.2.1 _ hi60).1
  have hv : vP S (lastN S q) := by
    have e : lastN S q = 3 * q + (np S q - 1) := by show 3 * q + np S q - 1 = _; omega
    rw [e]
    exact vP_of hq (by omega) hnp3
  obtain ⟨hS, s11, s12, s13, s14⟩ := testS_row S q (nI nm) (nI lo) (nI hi) b h10 (by omega)
  have hnt : ∀ i, nt S i ≤ 4 := fun i => by
    by_cases c : i < 60
    · exact (hA.2.2.1 i c).2
    · rw [hZ.nt0 i (fun z => by have := z.1; omega)]
      decide
  have hR := h3.test hS hnt h44 s11 s12 s13 hnm (by omega) hh
  rw [s14] at hR
  refine ⟨⟨lq, d, mm, li, qs, LQ, P, LT, X, E', _, hB, hX, hR, fun n' a' b' j hj => (hS.vPi j).mpr ?_, by omega, fun n' a' b' => ?_⟩, ?_⟩
  · by_cases c : b = 0
    · subst c
      rw [if_pos rfl] at hj
      exact layF_mem (V := vP S) hv 64 lo IX h4 n' a' b' j hj
    · rw [if_neg c] at hj
      exact h4 _ _ _ _ hj
  · by_cases c : b = 0
    · rw [if_pos c]
      have a1 := layF_len (hi := hi) (n := nm) (i := lastN S q) 64 lo IX (10 * N) h6 n' a' b'
      have a2 := pieces_10 lo (by omega) hi hh
      omega
    · rw [if_neg c]
      have := h6 n' a' b'
      omega
  · exact hI.test hS hv h44 hi60 (by unfold testS; rw [up2_s]) (fun j hj => by unfold testS; rw [up2_j hj, up2_k (by decide), up2_k (by decide), up2_k (by decide), up2_k (by decide)]) hnm hl hh s11 s12 s13 (by rw [s14]; exact hb)
end FULL
