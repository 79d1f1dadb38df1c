/-! ===== HASHMAP: resize ===== -/
/-- a table and its bins -/
def HT (g : Gx) (w : Wd) (T e : Nat) (f : Nat → Option Nat) (E : List Dt) : Prop := w T = some (eN g (2 ^ e) f, 5) ∧ ∀ i, i < 2 ^ e → ∃ C, f i = hd C none ∧ Bin w C (E.filter (inBk e i))
/-- all but the map's own things is kept -/
def FrH (w w' : Wd) : Prop := ∀ b e t, w b = some (e, t) → t ≠ 4 → t ≠ 5 → w' b = some (e, t)
theorem FrH.rf {w : Wd} : FrH w w := fun _ _ _ h _ _ => h
theorem FrH.tr {w w1 w2 : Wd} (h1 : FrH w w1) (h2 : FrH w1 w2) : FrH w w2 := fun b e t h a1 a2 => h2 b e t (h1 b e t h a1 a2) a1 a2
/-- the first j bins of T (2^e places) are moved to T2 -/
def RZ (g : Gx) (w0 w : Wd) (m T T2 e : Nat) (fsm : List Value) (f : Nat → Option Nat) (E : List Dt) (j : Nat) : Prop := T ≠ T2 ∧ w m = some (ob 7 fsm, 4) ∧ (∃ fo, w T = some (eN g (2 ^ e) fo, 5) ∧ ∀ i, j ≤ i → i < 2 ^ e → fo i = f i) ∧
  (∃ fn, w T2 = some (eN g (2 ^ (e + 1)) fn, 5) ∧ (∀ i, j ≤ i → i < 2 ^ e → fn i = none ∧ fn (i + 2 ^ e) = none) ∧
    ∀ i, i < j → (∃ C, fn i = hd C none ∧ Bin w C (E.filter (inBk (e + 1) i))) ∧ ∃ C, fn (i + 2 ^ e) = hd C none ∧ Bin w C (E.filter (inBk (e + 1) (i + 2 ^ e)))) ∧
  (∀ i, j ≤ i → i < 2 ^ e → ∃ C, f i = hd C none ∧ Bin w C (E.filter (inBk e i))) ∧ FrH w0 w
theorem ix_split {e : Nat} (he : e < 29) (d : Dt) (j : Nat) (hj : j < 2 ^ e) : (inBk e j d && loB (2 ^ e) d) = inBk (e + 1) j d ∧ (inBk e j d && !loB (2 ^ e) d) = inBk (e + 1) (j + 2 ^ e) d := by
  obtain ⟨h1, h2⟩ := ix_succ (e := e) (by omega) d.1
  have h3 := ix_lt e d.1
  unfold inBk loB
  by_cases hz : d.1 &&& nI (2 ^ e) = 0
  · rw [h1 hz]
    constructor
    · simp [hz]
    · simp [hz]
      omega
  · rw [h2 hz]
    constructor
    · simp [hz]
      omega
    · simp [hz]
theorem RZ.step {g : Gx} {w0 w w' : Wd} {m T T2 e j : Nat} {fsm : List Value} {f : Nat → Option Nat} {E : List Dt} (he : e < 29) (h : RZ g w0 w m T T2 e fsm f E j) (hj : j < 2 ^ e) {C C1 C2 : List Nat} {fo fn fo' fn' : Nat → Option Nat} (hC : Bin w C (E.filter (inBk e j)))
    (hfo : w T = some (eN g (2 ^ e) fo, 5)) (hfn : w T2 = some (eN g (2 ^ (e + 1)) fn, 5)) (a1 : Bin w' C1 ((E.filter (inBk e j)).filter (loB (2 ^ e)))) (a2 : Bin w' C2 ((E.filter (inBk e j)).filter (fun d => !loB (2 ^ e) d)))
    (b1 : w' T = some (eN g (2 ^ e) fo', 5)) (b2 : ∀ i, i ≠ j → fo' i = fo i) (b3 : w' T2 = some (eN g (2 ^ (e + 1)) fn', 5)) (b4 : fn' j = hd C1 none) (b5 : fn' (j + 2 ^ e) = hd C2 none) (b6 : ∀ i, i ≠ j → i ≠ j + 2 ^ e → fn' i = fn i) (hF : ∀ b, b ∉ C → b ≠ T → b ≠ T2 → w b ≠ none → w' b = w b) : RZ g w0 w' m T T2 e fsm f E (j + 1) := by
  obtain ⟨hne, h1, ⟨fo0, h2, h3⟩, ⟨fn0, h4, h5, h6⟩, h7, h8⟩ := h
  rw [hfo] at h2
  rw [hfn] at h4
  have eo : fo = fo0 := by injection h2 with z; injection z with z; injection z with z; injection z with _ z; injection z with _ z; injection z with z; injection z with z; injection z with z; injection z
  have en : fn = fn0 := by injection h4 with z; injection z with z; injection z with z; injection z with _ z; injection z with _ z; injection z with z; injection z with z; injection z with z; injection z
  subst eo en
  have hp := Nat.two_pow_pos e
  have key : ∀ (i : Nat) (C' : List Nat) (ds : List Dt), i < 2 ^ e → i ≠ j → (∀ d, d ∈ ds → ix e d.1 = i) → Bin w C' ds → Bin w' C' ds := by
    intro i C' ds hi hij hds hB
    refine hB.keep (fun b hb => hF b (fun hbC => ?_) (fun q => hB.nT hfo (by rw [← q]; exact hb)) (fun q => hB.nT hfn (by rw [← q]; exact hb)) (hB.some hb))
    obtain ⟨d, hd, hn⟩ := hB.nd hb
    obtain ⟨d', hd', hn'⟩ := hC.nd hbC
    have e1 := hds d hd
    have e2 : ix e d'.1 = j := of_decide_eq_true (List.mem_filter.mp hd').2
    rw [hn.uniq hn'] at e1
    omega
  have nm : ∀ (b : Nat) (x : va_E) (t : Nat), w b = some (x, t) → t ≠ 5 → w' b = some (x, t) := by
    intro b x t hb ht
    rw [hF b (fun hbC => ?_) (fun q => ?_) (fun q => ?_) (by rw [hb]; exact Option.some_ne_none _)]
    · exact hb
    · obtain ⟨d, -, hn⟩ := hC.nd hbC
      rcases hn with ⟨_, hn⟩ | ⟨_, _, _, hn⟩ <;> rw [hb] at hn <;> cases hn <;> exact ht rfl
    · rw [q, hfo] at hb
      cases hb
      exact ht rfl
    · rw [q, hfn] at hb
      cases hb
      exact ht rfl
  have f1 : (E.filter (inBk e j)).filter (loB (2 ^ e)) = E.filter (inBk (e + 1) j) := by
    rw [List.filter_filter]
    refine List.filter_congr (fun d _ => ?_)
    rw [Bool.and_comm]
    exact (ix_split he d j hj).1
  have f2 : (E.filter (inBk e j)).filter (fun d => !loB (2 ^ e) d) = E.filter (inBk (e + 1) (j + 2 ^ e)) := by
    rw [List.filter_filter]
    refine List.filter_congr (fun d _ => ?_)
    rw [Bool.and_comm]
    exact (ix_split he d j hj).2
  rw [f1] at a1
  rw [f2] at a2
  refine ⟨hne, nm m _ _ h1 (by decide), ⟨fo', b1, fun i hi hi2 => (b2 i (by omega)).trans (h3 i (by omega) hi2)⟩, ⟨fn', b3, fun i hi hi2 => ?_, fun i hi => ?_⟩, fun i hi hi2 => ?_, h8.tr (fun b x t hb _ h5 => nm b x t hb h5)⟩
  · obtain ⟨c1, c2⟩ := h5 i (by omega) hi2
    exact ⟨(b6 i (by omega) (by omega)).trans c1, (b6 _ (by omega) (by omega)).trans c2⟩
  · by_cases hij : i = j
    · subst hij
      exact ⟨⟨C1, b4, a1⟩, ⟨C2, b5, a2⟩⟩
    · obtain ⟨⟨D1, c1, c2⟩, ⟨D2, c3, c4⟩⟩ := h6 i (by omega)
      refine ⟨⟨D1, (b6 i hij (by omega)).trans c1, key i D1 _ (by omega) hij (fun d hd => ?_) c2⟩, ⟨D2, (b6 _ (by omega) (by omega)).trans c3, key i D2 _ (by omega) hij (fun d hd => ?_) c4⟩⟩
      · have h9 := (List.mem_filter.mp hd).2
        rw [← (ix_split he d i (by omega)).1, Bool.and_eq_true] at h9
        exact of_decide_eq_true h9.1
      · have h9 := (List.mem_filter.mp hd).2
        rw [← (ix_split he d i (by omega)).2, Bool.and_eq_true] at h9
        exact of_decide_eq_true h9.1
  · obtain ⟨D, c1, c2⟩ := h7 i (by omega) hi2
    exact ⟨D, c1, key i D _ hi2 (by omega) (fun d hd => of_decide_eq_true (List.mem_filter.mp hd).2) c2⟩
