/-! ===== ALERTINDEX: product ===== -/
section PRODUCT
variable {g : Gx} {w w' : Wd} {S S' : St}
/-- all is left but the lists Ls -/
def FrN (w w' : Wd) (Ls : List Nat) : Prop := ∀ b y t, w b = some (y, t) → b ∉ Ls → (∀ l, l ∈ Ls → t ≠ 1000 + l) → w' b = some (y, t)
/-- new ones, or lists of the class -/
def LsOK (w : Wd) (Ls : List Nat) : Prop := ∀ m, m ∈ Ls → w m = none ∨ ∃ fs t, w m = some (ob 6 fs, t) ∧ (t = 12 ∨ t = 13 ∨ t = 15 ∨ t = 17)
theorem FrN.ob {Ls : List Nat} (hF : FrN w w' Ls) (hs : LsOK w Ls) {b t : Nat} {y : va_E} (hb : w b = some (y, t)) (ht : t < 1000 ∧ t ≠ 12 ∧ t ≠ 13 ∧ t ≠ 15 ∧ t ≠ 17) : w' b = some (y, t) := hF b y t hb (fun z => by
  rcases hs b z with k | ⟨fs, t', k, k2⟩
  · rw [k] at hb
    cases hb
  · rw [k] at hb
    cases hb
    omega) (fun l _ => by omega)
theorem isL.frN {Ls : List Nat} {l tl : Nat} {xs : List Nat} (h : isL g w l tl xs) (hF : FrN w w' Ls) (hl : l ∉ Ls) (hs : LsOK w Ls) (ht : tl < 1000) : isL g w' l tl xs := by
  obtain ⟨fs, hlo⟩ := h.obj
  refine h.kept (fun b y t hb hc => hF b y t hb (fun z => ?_) (fun l' hl' z => ?_))
  · rcases hc with c | c
    · exact hl (c ▸ z)
    · rcases hs b z with k | ⟨_, t', k, k2⟩
      · rw [k] at hb
        cases hb
      · rw [k] at hb
        cases hb
        omega
  · rcases hc with c | c
    · rw [c, hlo] at hb
      cases hb
      omega
    · have : l' = l := by omega
      exact hl (this ▸ hl')
theorem LsOK.ne {Ls : List Nat} (hs : LsOK w Ls) {l tl : Nat} {y : va_E} (h : w l = some (y, tl)) (ht : tl ≠ 12 ∧ tl ≠ 13 ∧ tl ≠ 15 ∧ tl ≠ 17) : l ∉ Ls := fun z => by
  rcases hs l z with k | ⟨_, t', k, k2⟩
  · rw [k] at h
    cases h
  · rw [k] at h
    cases h
    omega
theorem FrN.I {Ls : List Nat} (hF : FrN w w' Ls) (hs : LsOK w Ls) : FrI g w w' := ⟨fun b y t hb hc => by
  rcases hc with c | c | c | ⟨l, fs, c, c2⟩
  · exact hF.ob hs hb (by omega)
  · exact hF.ob hs hb (by omega)
  · exact hF.ob hs hb (by omega)
  · refine hF b y t hb (fun z => ?_) (fun l' hl' z => ?_)
    · rcases hs b z with k | ⟨_, t', k, k2⟩
      · rw [k] at hb
        cases hb
      · rw [k] at hb
        cases hb
        omega
    · have : l' = l := by omega
      exact hs.ne c2 (by decide) (this ▸ hl'), fun b xs h => by
  obtain ⟨v, f, h0, m1, m2, m3⟩ := h
  exact ⟨v, f, h0, hF.ob hs m1 (by decide), hF.ob hs m2 (by decide), m3⟩⟩
theorem FrN.O {Ls : List Nat} (hF : FrN w w' Ls) (hs : LsOK w Ls) : FrO w w' := fun b y t hb hc => hF.ob hs hb (by omega)
theorem isIX.setP {mm : Nat} {E : List Dt} {IX : IXt} {P P' : Nat → Nat} (h : isIX g w mm E IX P) (hP : ∀ n a b j, isKey n a b → j ∈ IX n a b → P' j = P j) : isIX g w mm E IX P' := by
  obtain ⟨h1, h2, h3, h4⟩ := h
  refine ⟨h1, h2, fun e he => ?_, h4⟩
  obtain ⟨n, a, b, k1, k2, k3, k4⟩ := h3 e he
  refine ⟨n, a, b, k1, k2, k3, ?_⟩
  have : (IX n a b).map P' = (IX n a b).map P := List.map_congr_left (fun j hj => hP n a b j k1 hj)
  rw [this]
  exact k4
theorem X_le {X : List Nat} (hX : X.Nodup) (hb : ∀ i, i ∈ X → i < 60) : X.length ≤ 60 := by
  have h := hX.length_le_of_subset (l₂ := List.range 60) (fun i hi => List.mem_range.mpr (hb i hi))
  rw [List.length_range] at h
  exact h
def updN (f : Nat → Nat) (i z : Nat) : Nat → Nat := fun j => if j = i then z else f j
theorem updN_s {f : Nat → Nat} {i z : Nat} : updN f i z i = z := if_pos rfl
theorem updN_n {f : Nat → Nat} {i j z : Nat} (h : j ≠ i) : updN f i z j = f j := if_neg h
def prodS (S : St) (i : Nat) : St := up2 S 5 i (S 5 i + 1)
theorem prodS_np {i : Nat} (h : S 5 i = nI (np S i)) (h3 : np S i < 1000) (j : Nat) : np (prodS S i) j = if j = i then np S i + 1 else np S j := by
  by_cases e : j = i
  · rw [if_pos e, e]
    show (up2 S 5 i (S 5 i + 1) 5 i).toNatClampNeg = _
    rw [up2_s, h, nI_1, nI_clamp (by omega)]
  · rw [if_neg e]
    show (up2 S 5 i (S 5 i + 1) 5 j).toNatClampNeg = _
    rw [up2_j e]
    rfl
theorem prodS_vP {i : Nat} (h : S 5 i = nI (np S i)) (h3 : np S i < 3) (hi : i < nq S) (j : Nat) : vP (prodS S i) j ↔ vP S j ∨ j = 3 * i + np S i := by
  have e1 : nq (prodS S i) = nq S := by unfold nq prodS; rw [up2_k (by decide)]
  unfold vP
  rw [e1, prodS_np h (by omega)]
  by_cases e : j / 3 = i
  · rw [if_pos e, e]
    omega
  · rw [if_neg e]
    constructor
    · exact Or.inl
    · rintro (z | z)
      · exact z
      · omega
theorem isTst.row5 {i k t : Nat} {v : Int32} (h : isTst w S k t) : isTst w (up2 S 5 i v) k t := by
  have e : ∀ k, k ≠ 5 → up2 S 5 i v k = S k := fun k hk => by funext b; exact up2_k hk
  have hr : ∀ z r, isRng w S z r → isRng w (up2 S 5 i v) z r := fun z r hz => by
    unfold isRng at hz ⊢
    rw [e 11 (by decide), e 12 (by decide), e 13 (by decide)]
    exact hz
  rcases h with ⟨a, b⟩ | ⟨a, r, b, c⟩
  · exact Or.inl ⟨by rw [e 14 (by decide)]; exact a, hr _ _ b⟩
  · exact Or.inr ⟨by rw [e 14 (by decide)]; exact a, r, b, hr _ _ c⟩
theorem isBs.product {a lq d mm li : Nat} {qs : List Nat} {LQ P LT : Nat → Nat} {X : List Nat} {i p l : Nat} (h : isBs g w a S lq d mm li qs LQ P LT X) (h5 : S 5 i = nI (np S i)) (h3 : np S i < 3) (hi : i < nq S) (hz : nt S (3 * i + np S i) = 0) (hF : FrN w w' [LQ i, li, l]) (hl : w l = none) (hp : w p = none) (k1 : isL g w' (LQ i) 15 (prL S P i ++ [p])) (k2 : isL g w' li 13 (X.map P ++ [p])) (k3 : w' p = some (ob 3 [.ref l, .int (nI i), .int 0], 16)) (k4 : isL g w' l 17 []) : isBs g w' a (prodS S i) lq d mm li qs LQ (updN P (3 * i + np S i) p) (updN LT (3 * i + np S i) l) (X ++ [3 * i + np S i]) ∧ LsOK w [LQ i, li, l] := by
  obtain ⟨ha, hd, hlq, hlen, hnd, hq, hL, hP, i1, i2, i3, x1, x2, x3⟩ := h
  obtain ⟨fi, hio⟩ := (hL i hi).1.obj
  obtain ⟨fx, hxo⟩ := x3.obj
  have hs : LsOK w [LQ i, li, l] := fun m hm => by
    simp only [List.mem_cons, List.not_mem_nil, or_false] at hm
    rcases hm with rfl | rfl | rfl
    · exact Or.inr ⟨_, _, hio, by omega⟩
    · exact Or.inr ⟨_, _, hxo, by omega⟩
    · exact Or.inl hl
  refine ⟨?_, hs⟩
  have er : ∀ k, k ≠ 5 → prodS S i k = S k := fun k hk => by unfold prodS; funext b; exact up2_k hk
  have e1 : nq (prodS S i) = nq S := by unfold nq; rw [er 2 (by decide)]
  have e2 := prodS_np h5 (by omega)
  have e3 := prodS_vP h5 h3 hi
  have e4 : ∀ j, nt (prodS S i) j = nt S j := fun j => by unfold nt; rw [er 10 (by decide)]
  have nv : ¬ vP S (3 * i + np S i) := fun z => by
    obtain ⟨z1, z2⟩ := z
    have a1 : (3 * i + np S i) / 3 = i := by omega
    rw [a1] at z2
    omega
  have hkeep : ∀ {l' tl : Nat} {xs : List Nat}, isL g w l' tl xs → tl < 1000 → l' ≠ LQ i → l' ≠ li → isL g w' l' tl xs := fun {l' tl xs} h' ht n1 n2 => h'.frN hF (fun z => by
    simp only [List.mem_cons, List.not_mem_nil, or_false] at z
    rcases z with z | z | z
    · exact n1 z
    · exact n2 z
    · rw [z] at h'
      exact h'.ne hl) hs ht
  have dif : ∀ {l1 l2 t1 t2 : Nat} {f1 f2 : List Value}, w l1 = some (ob 6 f1, t1) → w l2 = some (ob 6 f2, t2) → t1 ≠ t2 → l1 ≠ l2 := fun h1 h2 hn z => by
    rw [z, h2] at h1
    cases h1
    exact hn rfl
  refine ⟨by rw [er 1 (by decide)]; exact hF.ob hs ha (by decide), by rw [er 3 (by decide)]; exact hF.ob hs hd (by decide), ?_, by rw [e1]; exact hlen, hnd, fun j q hj => ?_, fun j hj => ?_, fun j hj => ?_, by rw [e1]; exact i1, ?_, ?_, ?_, ?_, ?_⟩
  · obtain ⟨fl, hlo⟩ := hlq.obj
    exact hkeep hlq (by decide) (dif hlo hio (by decide)) (dif hlo hxo (by decide))
  · rw [er 4 (by decide), er 6 (by decide), er 7 (by decide), er 8 (by decide), er 9 (by decide)]
    exact hF.ob hs (hq j q hj) (by decide)
  · rw [e1] at hj
    obtain ⟨b1, b2⟩ := hL j hj
    obtain ⟨fj, hjo⟩ := b1.obj
    by_cases e : j = i
    · subst e
      have ep : prL (prodS S j) (updN P (3 * j + np S j) p) j = prL S P j ++ [p] := by
        unfold prL
        rw [e2, if_pos rfl, List.range_succ, List.map_append, List.map_cons, List.map_nil, updN_s]
        congr 1
        refine List.map_congr_left (fun k hk => updN_n ?_)
        have := List.mem_range.mp hk
        omega
      rw [ep, e2, if_pos rfl]
      exact ⟨k1, by omega⟩
    · have ep : prL (prodS S i) (updN P (3 * i + np S i) p) j = prL S P j := by
        unfold prL
        rw [e2, if_neg e]
        refine List.map_congr_left (fun k hk => updN_n ?_)
        have := List.mem_range.mp hk
        omega
      rw [ep, e2, if_neg e]
      exact ⟨hkeep b1 (by decide) (fun z => e (i1 j i hj hi z)) (dif hjo hxo (by decide)), b2⟩
  · rcases (e3 j).mp hj with hj | rfl
    · have nj : j ≠ 3 * i + np S i := fun z => nv (z ▸ hj)
      obtain ⟨fd, ts, c1, c2, c3, c4, c5⟩ := hP j hj
      obtain ⟨ft, hto⟩ := c2.obj
      refine ⟨fd, ts, by rw [updN_n nj, updN_n nj]; exact hF.ob hs c1 (by decide), ?_, by rw [e4]; exact c3, by rw [e4]; exact c4, fun k t hk => ?_⟩
      · rw [updN_n nj]
        exact hkeep c2 (by decide) (dif hto hio (by decide)) (dif hto hxo (by decide))
      · have := (c5 k t hk).kept (w' := w') (fun b y hb => hF.ob hs hb (by decide))
        exact this.row5
    · have a1 : (3 * i + np S i) / 3 = i := by omega
      refine ⟨0, [], by rw [updN_s, updN_s, a1]; exact k3, by rw [updN_s]; exact k4, by rw [e4, hz]; rfl, by rw [e4, hz]; decide, fun k t hk => by cases hk⟩
  · intro j j' hj hj' he
    rcases (e3 j).mp hj with hj | rfl
    · have nj : j ≠ 3 * i + np S i := fun z => nv (z ▸ hj)
      obtain ⟨fd, ts, c1, -⟩ := hP j hj
      rcases (e3 j').mp hj' with hj' | rfl
      · have nj' : j' ≠ 3 * i + np S i := fun z => nv (z ▸ hj')
        rw [updN_n nj, updN_n nj'] at he
        exact i2 j j' hj hj' he
      · rw [updN_n nj, updN_s] at he
        rw [he, hp] at c1
        cases c1
    · rcases (e3 j').mp hj' with hj' | rfl
      · have nj' : j' ≠ 3 * i + np S i := fun z => nv (z ▸ hj')
        obtain ⟨fd, ts, c1, -⟩ := hP j' hj'
        rw [updN_s, updN_n nj'] at he
        rw [← he, hp] at c1
        cases c1
      · rfl
  · intro j j' hj hj' he
    rcases (e3 j).mp hj with hj | rfl
    · have nj : j ≠ 3 * i + np S i := fun z => nv (z ▸ hj)
      obtain ⟨fd, ts, -, c1, -⟩ := hP j hj
      rcases (e3 j').mp hj' with hj' | rfl
      · have nj' : j' ≠ 3 * i + np S i := fun z => nv (z ▸ hj')
        rw [updN_n nj, updN_n nj'] at he
        exact i3 j j' hj hj' he
      · rw [updN_n nj, updN_s] at he
        rw [he] at c1
        exact absurd hl c1.ne
    · rcases (e3 j').mp hj' with hj' | rfl
      · have nj' : j' ≠ 3 * i + np S i := fun z => nv (z ▸ hj')
        obtain ⟨fd, ts, -, c1, -⟩ := hP j' hj'
        rw [updN_s, updN_n nj'] at he
        rw [← he] at c1
        exact absurd hl c1.ne
      · rfl
  · rw [List.nodup_append]
    refine ⟨x1, by simp, fun b hb c hc z => ?_⟩
    rw [List.mem_singleton.mp hc] at z
    exact nv ((x2 _).mp (z ▸ hb))
  · intro j
    rw [List.mem_append, List.mem_singleton, x2, e3]
  · rw [List.map_append, List.map_cons, List.map_nil, updN_s]
    have : X.map (updN P (3 * i + np S i) p) = X.map P := List.map_congr_left (fun j hj => updN_n (fun z => nv (z ▸ (x2 j).mp hj)))
    rw [this]
    exact k2
end PRODUCT
