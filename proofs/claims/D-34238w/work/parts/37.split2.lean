/-! ===== TREE BINS: split, its contract; bins and frames ===== -/
/-- at b lies a node with the hash hh -/
def isNd (w : Wd) (b : Nat) (hh : Int32) : Prop := (∃ fs, w b = some (ob 8 (.int hh :: fs), 5)) ∨ ∃ z1 z2 fs, w b = some (ob 9 (z1 :: z2 :: .int hh :: fs), 5)
theorem isNd.uniq {w : Wd} {b : Nat} {x y : Int32} (h1 : isNd w b x) (h2 : isNd w b y) : x = y := by
  rcases h1 with ⟨_, h1⟩ | ⟨_, _, _, h1⟩ <;> rcases h2 with ⟨_, h2⟩ | ⟨_, _, _, h2⟩ <;> rw [h1] at h2 <;> cases h2 <;> rfl
theorem Bin.nd {w : Wd} {C : List Nat} {ds : List Dt} (h : Bin w C ds) {b : Nat} (hb : b ∈ C) : ∃ d, d ∈ ds ∧ isNd w b d.1 := by
  rcases h with ⟨h, k, v, nx, hN, _, _, hp⟩ | ⟨h, k, v, nx, P, L, R, pv, rd, root, lo, hi, hT, _, _, _, hp, _⟩
  · exact ⟨dat h k v b, hp.mem_iff.mp (List.mem_map_of_mem hb), Or.inl ⟨_, hN b hb⟩⟩
  · exact ⟨dat h k v b, hp.mem_iff.mp (List.mem_map_of_mem hb), Or.inr ⟨_, _, _, hT b hb⟩⟩
theorem Bin.keep {w w' : Wd} {C : List Nat} {ds : List Dt} (h : Bin w C ds) (hw : ∀ b, b ∈ C → w' b = w b) : Bin w' C ds := by
  rcases h with ⟨h, k, v, nx, hN, h2, h3, hp⟩ | ⟨h, k, v, nx, P, L, R, pv, rd, root, lo, hi, hT, h2, h3, h4, hp, h5⟩
  · exact Or.inl ⟨h, k, v, nx, fun a ha => (hw a ha).trans (hN a ha), h2, h3, hp⟩
  · exact Or.inr ⟨h, k, v, nx, P, L, R, pv, rd, root, lo, hi, fun a ha => (hw a ha).trans (hT a ha), h2, h3, h4, hp, h5⟩
theorem Bin.perm {w : Wd} {C : List Nat} {ds ds' : List Dt} (h : Bin w C ds) (hp' : ds.Perm ds') : Bin w C ds' := by
  rcases h with ⟨h, k, v, nx, hN, h2, h3, hp⟩ | ⟨h, k, v, nx, P, L, R, pv, rd, root, lo, hi, hT, h2, h3, h4, hp, h5⟩
  · exact Or.inl ⟨h, k, v, nx, hN, h2, h3, hp.trans hp'⟩
  · exact Or.inr ⟨h, k, v, nx, P, L, R, pv, rd, root, lo, hi, hT, h2, h3, h4, hp.trans hp', h5⟩
theorem Bin.len {w : Wd} {C : List Nat} {ds : List Dt} (h : Bin w C ds) : C.length = ds.length := by
  rcases h with ⟨h, k, v, nx, hN, h2, h3, hp⟩ | ⟨h, k, v, nx, P, L, R, pv, rd, root, lo, hi, hT, h2, h3, h4, hp, h5⟩ <;> simpa using hp.length_eq
theorem Bin.nT {w : Wd} {g : Gx} {C : List Nat} {ds : List Dt} (h : Bin w C ds) {T n : Nat} {f : Nat → Option Nat} {t : Nat} (hT : w T = some (eN g n f, t)) : T ∉ C := fun hm => by
  obtain ⟨d, _, h1⟩ := h.nd hm
  rcases h1 with ⟨_, h1⟩ | ⟨_, _, _, h1⟩ <;> rw [hT] at h1 <;> cases h1
theorem Bin.some {w : Wd} {C : List Nat} {ds : List Dt} (h : Bin w C ds) {b : Nat} (hb : b ∈ C) : w b ≠ none := by
  obtain ⟨d, _, h1⟩ := h.nd hb
  rcases h1 with ⟨_, h1⟩ | ⟨_, _, _, h1⟩ <;> rw [h1] <;> exact Option.some_ne_none _
theorem hd_none {C : List Nat} (h : hd C none = none) : C = [] := by
  cases C with
  | nil => rfl
  | cons a C => cases h
theorem filter_len {α : Type} (p : α → Bool) : ∀ l : List α, (l.filter p).length + (l.filter (fun a => !p a)).length = l.length
  | [] => rfl
  | a :: l => by
    have := filter_len p l
    cases h : p a <;> simp [List.filter_cons, h] <;> omega
theorem filter_none {α : Type} {p : α → Bool} : ∀ {l : List α}, l.filter (fun a => !p a) = [] → l.filter p = l
  | [], _ => rfl
  | a :: l, h => by
    cases hp : p a with
    | true =>
      simp [List.filter_cons, hp] at h ⊢
      exact fun b hb => h b hb
    | false => simp [List.filter_cons, hp] at h
def loB (bt : Nat) (d : Dt) : Bool := decide (d.1 &&& nI bt = 0)
section SPLIT2
variable {g : Gx} {w : Wd} {h : Nat → Int32} {k v : Nat → Nat} {nx P L R pv : Nat → Option Nat} {rd : Nat → Int32} {lo hi : Nat → Int} {root : Nat}
theorem split_ct {m T n i bt tm y : Nat} {fsm : List Value} {f : Nat → Option Nat} {r : List Nat} {ds : List Dt} (hm : w m = some (ob 7 fsm, tm)) (htm : tm ≠ 5) (hTab : w T = some (eN g n f, 5)) (hn : n < 2 ^ 30) (hin : i + bt < n) (hbt : 0 < bt) (hf1 : f i = none) (hf2 : f (i + bt) = none) (hT : TW w (fun a => a ∈ y :: r) h k v nx P L R pv rd) (H : Tr (fun a => a ∈ y :: r) root (fun a => (h a).toInt) P L R lo hi) (hseg : seg nx (y :: r) none) (hnd : (y :: r).Nodup) (hperm : ((y :: r).map (dat h k v)).Perm ds) (hlo : ∀ d, d ∈ ds → loB bt d = true → (nI n - 1) &&& d.1 = nI i) (hhi : ∀ d, d ∈ ds → loB bt d = false → (nI n - 1) &&& d.1 = nI (i + bt)) (hinj : (ds.map (fun d => d.1)).Nodup) (hlen : ds.length < 2 ^ 30) : Ct g yJ28_split cJ28_split 14 none 4 (r.length+1) (4*(r.length+1)) [.ref y, .ref m, .ref T, .int (nI i), .int (nI bt)] w (fun o w' => o = none ∧ ∃ C1 C2 f', Bin w' C1 (ds.filter (loB bt)) ∧ Bin w' C2 (ds.filter (fun d => !loB bt d)) ∧ w' T = some (eN g n f', 5) ∧ f' i = hd C1 none ∧ f' (i + bt) = hd C2 none ∧ (∀ j, j ≠ i → j ≠ i + bt → f' j = f j) ∧ (∀ b, b ∉ y :: r → b ≠ T → w b ≠ none → w' b = w b)) noX := by
  refine Ct.of RJ28 "split" ⟨rfl, rfl⟩ (by decide +kernel) (by simp [Value.category] <;> exact cat_rf _) (Nat.le_of_ble_eq_true rfl) (fun x ok hQ hN => ?_)
  show Z g x 14 0 [some (.ref y), some (.ref m), some (.ref T), some (.int (nI i)), some (.int (nI bt)), none, none, none, none, none, none, none, none, none] [] w (r.length+1) (4*(r.length+1))
  have hTC : T ∉ y :: r := fun e => by rw [hT T e] at hTab; cases hTab
  have hmB : m ∉ y :: r := fun e => by rw [hT m e] at hm; cases hm
  have hmT : m ≠ T := fun e => by rw [e, hTab] at hm; cases hm
  refine Z.aload_n ok dJ28_split_0 rfl (by first | exact isRf.r _ | exact isRf.n | exact isRf.v _ | assumption) ?_
  refine Z.astore ok dJ28_split_1 (by decide) (by first | exact isRf.r _ | exact isRf.n | exact isRf.v _ | assumption) ?_
  refine Z.null ok dJ28_split_3 ?_
  refine Z.astore ok dJ28_split_4 (by decide) (by first | exact isRf.r _ | exact isRf.n | exact isRf.v _ | assumption) ?_
  refine Z.null ok dJ28_split_6 ?_
  refine Z.astore ok dJ28_split_7 (by decide) (by first | exact isRf.r _ | exact isRf.n | exact isRf.v _ | assumption) ?_
  refine Z.null ok dJ28_split_9 ?_
  refine Z.astore ok dJ28_split_10 (by decide) (by first | exact isRf.r _ | exact isRf.n | exact isRf.v _ | assumption) ?_
  refine Z.null ok dJ28_split_12 ?_
  refine Z.astore ok dJ28_split_13 (by decide) (by first | exact isRf.r _ | exact isRf.n | exact isRf.v _ | assumption) ?_
  refine Z.iconst_0 ok dJ28_split_15 ?_
  refine Z.istore ok dJ28_split_16 (by decide) ?_
  refine Z.iconst_0 ok dJ28_split_18 ?_
  refine Z.istore ok dJ28_split_19 (by decide) ?_
  refine Z.aload ok dJ28_split_21 rfl (by first | exact isRf.r _ | exact isRf.n | exact isRf.v _ | assumption) ?_
  refine Z.astore ok dJ28_split_23 (by decide) (by first | exact isRf.r _ | exact isRf.n | exact isRf.v _ | assumption) ?_
  refine spl_loop (B := y :: r) (pl := fun a => decide (h a &&& nI bt = 0)) (ph := fun a => !decide (h a &&& nI bt = 0)) ok (fun _ => rfl) (fun _ => rfl) hseg hnd ?_ (y :: r) [] w _ rfl ⟨nx, pv, hT, FrB.rf, trivial, trivial, trivial, trivial, fun _ _ => rfl⟩
  intro w1 l13 hS
  obtain ⟨nx', pv', hT1, hB1, s1, s2, s3, s4, -⟩ := hS
  have hlenB : (y :: r).length < 2 ^ 30 := by
    have := hperm.length_eq
    rw [List.length_map] at this
    omega
  have hsplit := filter_len (fun a => decide (h a &&& nI bt = 0)) (y :: r)
  have e1 : ((y :: r).filter (fun a => decide (h a &&& nI bt = 0))).map (dat h k v) = ((y :: r).map (dat h k v)).filter (loB bt) := by rw [List.filter_map]; rfl
  have e2 : ((y :: r).filter (fun a => !decide (h a &&& nI bt = 0))).map (dat h k v) = ((y :: r).map (dat h k v)).filter (fun d => !loB bt d) := by rw [List.filter_map]; rfl
  have p1 : (((y :: r).filter (fun a => decide (h a &&& nI bt = 0))).map (dat h k v)).Perm (ds.filter (loB bt)) := by rw [e1]; exact hperm.filter _
  have p2 : (((y :: r).filter (fun a => !decide (h a &&& nI bt = 0))).map (dat h k v)).Perm (ds.filter (fun d => !loB bt d)) := by rw [e2]; exact hperm.filter _
  have hfull1 : (y :: r).filter (fun a => !decide (h a &&& nI bt = 0)) = [] → (y :: r).filter (fun a => decide (h a &&& nI bt = 0)) = y :: r := filter_none
  have hfull2 : (y :: r).filter (fun a => decide (h a &&& nI bt = 0)) = [] → (y :: r).filter (fun a => !decide (h a &&& nI bt = 0)) = y :: r := fun e => filter_none (p := fun a => !decide (h a &&& nI bt = 0)) (by simpa using e)
  have m1 : ∀ a, a ∈ (y :: r).filter (fun a => decide (h a &&& nI bt = 0)) → a ∈ y :: r ∧ h a &&& nI bt = 0 := fun a ha => ⟨(List.mem_filter.mp ha).1, of_decide_eq_true (List.mem_filter.mp ha).2⟩
  have m2 : ∀ a, a ∈ (y :: r).filter (fun a => !decide (h a &&& nI bt = 0)) → a ∈ y :: r ∧ ¬ h a &&& nI bt = 0 := fun a ha => ⟨(List.mem_filter.mp ha).1, by simpa using (List.mem_filter.mp ha).2⟩
  generalize hlo0 : (y :: r).filter (fun a => decide (h a &&& nI bt = 0)) = lol at s1 s2 p1 hfull1 hfull2 m1 hsplit ⊢
  generalize hhi0 : (y :: r).filter (fun a => !decide (h a &&& nI bt = 0)) = hil at s3 s4 p2 hfull1 hfull2 m2 hsplit ⊢
  have nd1 : lol.Nodup := by rw [← hlo0]; exact hnd.filter _
  have nd2 : hil.Nodup := by rw [← hhi0]; exact hnd.filter _
  have hm1 : w1 m = some (ob 7 fsm, tm) := (hB1 m hmB).trans hm
  have hTab1 : w1 T = some (eN g n f, 5) := (hB1 T hTC).trans hTab
  have ij : i ≠ i + bt := by omega
  refine Z.room (kc' := hil.length + lol.length) (ks' := 4 * hil.length + 4 * lol.length) (by simp at hsplit; omega) (by simp at hsplit; omega) ?_
  refine split_lo (n := n) (i := i) (i0 := i) ok hm1 (fun a ha => hT1 a (m1 a ha).1) s1 s2 nd1 hTab1 hn (by omega) rfl hf1 p1 (fun d hd => hlo d (List.mem_filter.mp hd).1 (List.mem_filter.mp hd).2) ((hinj.sublist ((List.filter_sublist).map _))) (by simp at hsplit hlenB; omega) (fun ho _ => ⟨root, lo, hi, H.setS (fun a => by rw [hfull1 (hd_none ho)])⟩) ?_
  intro w2 f1 C1 b1 b2 b3 b4 b5
  have hm2 : w2 m = some (ob 7 fsm, tm) := (b5 m (fun e => hmB (m1 m e).1) hmT (by rw [hm1]; exact Option.some_ne_none _)).trans hm1
  have hT2 : TW w2 (fun a => a ∈ hil) h k v nx' P L R pv' rd := fun a ha => by
    have := hT1 a (m2 a ha).1
    rw [b5 a (fun e => (m2 a ha).2 (m1 a e).2) (fun e => hTC (by rw [← e]; exact (m2 a ha).1)) (by rw [this]; exact Option.some_ne_none _)]
    exact this
  refine Z.room (kc' := 0 + hil.length) (ks' := 0 + 4 * hil.length) (by omega) (by omega) ?_
  refine split_hi (n := n) (i := i + bt) (i0 := i) ok hm2 hT2 s3 s4 nd2 b2 hn hin rfl ((b3 _ (Ne.symm ij)).trans hf2) p2 (fun d hd => hhi d (List.mem_filter.mp hd).1 (by simpa using (List.mem_filter.mp hd).2)) ((hinj.sublist ((List.filter_sublist).map _))) (by simp at hsplit hlenB; omega) (fun ho _ => ⟨root, lo, hi, H.setS (fun a => by rw [hfull2 (hd_none ho)])⟩) ?_
  intro w3 f2 C2 c1 c2 c3 c4 c5
  refine Z.vret ok hQ rfl dJ28_split_217 ?_
  refine ⟨rfl, C1, C2, f2, b1.keep (fun b hb => ?_), c1, c2, (c3 i ij).trans b4, c4, fun j h1 h2 => (c3 j h2).trans (b3 j h1), fun b hb hbT hwb => ?_⟩
  · refine c5 b (fun hbh => ?_) (fun e => b1.nT b2 (by rw [← e]; exact hb)) (b1.some hb)
    obtain ⟨d, hd, hnd⟩ := b1.nd hb
    have h2 : isNd w2 b (h b) := Or.inr ⟨_, _, _, hT2 b hbh⟩
    have h3 := hnd.uniq h2
    have h4 := (List.mem_filter.mp hd).2
    unfold loB at h4
    rw [h3] at h4
    exact (m2 b hbh).2 (of_decide_eq_true h4)
  · have h1 := hB1 b hb
    have h2 := b5 b (fun e => hb (m1 b e).1) hbT (by rw [h1]; exact hwb)
    rw [c5 b (fun e => hb (m2 b e).1) hbT (by rw [h2, h1]; exact hwb), h2, h1]
end SPLIT2
