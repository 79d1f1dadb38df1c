/-! ===== THE INDEX's COUNT, plain law: the set over products is the set over questions ===== -/
def orL (L : List Int32) : Int32 := L.foldl (fun s v => s ||| v) 0
theorem orL_snoc (L : List Int32) (v : Int32) : orL (L ++ [v]) = orL L ||| v := by
  unfold orL
  rw [List.foldl_append]
  rfl
theorem or_abs {a b : Int32} : a ||| (b ||| a) = b ||| a := by
  rw [Int32.or_comm b a, ← Int32.or_assoc, Int32.or_self]
theorem orL_keep : ∀ (L : List Int32) (s x : Int32), x ||| s = s → x ||| L.foldl (fun s v => s ||| v) s = L.foldl (fun s v => s ||| v) s
  | [], _, _, h => h
  | v :: L, s, x, h => by
    rw [List.foldl_cons]
    exact orL_keep L (s ||| v) x (by rw [← Int32.or_assoc, h])
theorem orL_mem : ∀ (L : List Int32) (s v : Int32), v ∈ L → v ||| L.foldl (fun s v => s ||| v) s = L.foldl (fun s v => s ||| v) s
  | u :: L, s, v, h => by
    rw [List.foldl_cons]
    rcases List.mem_cons.mp h with rfl | h
    · exact orL_keep L _ _ or_abs
    · exact orL_mem L _ v h
theorem orL_sub : ∀ (L : List Int32) (s y : Int32), (∀ v, v ∈ L → v ||| y = y) → s ||| y = y → L.foldl (fun s v => s ||| v) s ||| y = y
  | [], _, _, _, h => h
  | v :: L, s, y, h1, h2 => by
    rw [List.foldl_cons]
    refine orL_sub L (s ||| v) y (fun u hu => h1 u (List.mem_cons_of_mem _ hu)) ?_
    rw [Int32.or_assoc, h1 v List.mem_cons_self, h2]
theorem orL_eq {L1 L2 : List Int32} (h1 : ∀ v, v ∈ L1 → v ||| orL L2 = orL L2) (h2 : ∀ v, v ∈ L2 → v ||| orL L1 = orL L1) : orL L1 = orL L2 := by
  have e1 : orL L1 ||| orL L2 = orL L2 := orL_sub L1 0 _ h1 (by simp)
  have e2 : orL L2 ||| orL L1 = orL L1 := orL_sub L2 0 _ h2 (by simp)
  rw [Int32.or_comm] at e2
  exact e2.symm.trans e1
theorem foundS_or (S : St) : ∀ n, foundS S n = orL ((List.range n).map fun q => if actB S q then bitN q else 0)
  | 0 => rfl
  | n + 1 => by
    rw [List.range_succ, List.map_append, List.map_cons, List.map_nil, orL_snoc, ← foundS_or S n]
    rfl
/-- the products' places, in any order, give the questions that are found -/
theorem found_places {S : St} {is : List Nat} (h : ∀ i, i ∈ is ↔ i / 3 < nq S ∧ i % 3 < np S (i / 3)) (h3 : ∀ q, q < nq S → np S q ≤ 3) : orL (is.map fun i => if S 4 (i / 3) = 0 ∧ prodB S i = true then bitN (i / 3) else 0) = foundS S (nq S) := by
  rw [foundS_or]
  refine orL_eq (fun v hv => ?_) (fun v hv => ?_)
  · obtain ⟨i, hi, rfl⟩ := List.mem_map.mp hv
    obtain ⟨h1, h2⟩ := (h i).mp hi
    by_cases hc : S 4 (i / 3) = 0 ∧ prodB S i = true
    · rw [if_pos hc]
      refine orL_mem _ 0 _ (List.mem_map.mpr ⟨i / 3, List.mem_range.mpr h1, ?_⟩)
      have hd : doesB S (i / 3) = true := by
        unfold doesB
        refine List.any_eq_true.mpr ⟨i % 3, List.mem_range.mpr h2, ?_⟩
        rw [show 3 * (i / 3) + i % 3 = i by omega]
        exact hc.2
      have ha : actB S (i / 3) = true := by
        unfold actB
        rw [decide_eq_true hc.1, hd]
        rfl
      rw [if_pos ha]
    · rw [if_neg hc]
      simp
  · obtain ⟨q, hq, rfl⟩ := List.mem_map.mp hv
    have hqn := List.mem_range.mp hq
    by_cases ha : actB S q = true
    · rw [if_pos ha]
      unfold actB at ha
      rw [Bool.and_eq_true] at ha
      obtain ⟨p, hp, hpb⟩ := List.any_eq_true.mp ha.2
      have hpn := List.mem_range.mp hp
      have := h3 q hqn
      have e1 : (3 * q + p) / 3 = q := by omega
      have e2 : (3 * q + p) % 3 = p := by omega
      refine orL_mem _ 0 _ (List.mem_map.mpr ⟨3 * q + p, (h _).mpr ⟨by rw [e1]; exact hqn, by rw [e1, e2]; exact hpn⟩, ?_⟩)
      rw [e1, if_pos ⟨of_decide_eq_true ha.1, hpb⟩]
    · rw [if_neg ha]
      simp
