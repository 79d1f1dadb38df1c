/-! ===== ALERTINDEX: the full state, its base (all but the index) ===== -/
/-- a product's place in use -/
def vP (S : St) (i : Nat) : Prop := i / 3 < nq S ∧ i % 3 < np S (i / 3)
def prL (S : St) (P : Nat → Nat) (j : Nat) : List Nat := (List.range (np S j)).map fun k => P (3 * j + k)
section STATE
variable {g : Gx} {w w' : Wd} {S S' : St}
/-- the base: LQ, P, LT: the addresses of a question's list, of a product, of a product's list; X: the places in the order of indexed -/
def isBs (g : Gx) (w : Wd) (a : Nat) (S : St) (lq d mm li : Nat) (qs : List Nat) (LQ P LT : Nat → Nat) (X : List Nat) : Prop :=
  w a = some (ob 0 [.ref lq, .ref d, .ref mm, .ref li, .int (S 1 0)], 10) ∧ w d = some (eI g 6 (S 3), 11) ∧ isL g w lq 12 qs ∧ qs.length = nq S ∧ qs.Nodup ∧
  (∀ j q, qs[j]? = some q → w q = some (ob 2 [.ref (LQ j), .int (S 4 j), .int (S 6 j), .int (S 7 j), .int (S 8 j), .int (S 9 j)], 14)) ∧
  (∀ j, j < nq S → isL g w (LQ j) 15 (prL S P j) ∧ np S j ≤ 3) ∧
  (∀ i, vP S i → ∃ fd ts, w (P i) = some (ob 3 [.ref (LT i), .int (nI (i / 3)), .int fd], 16) ∧ isL g w (LT i) 17 ts ∧ ts.length = nt S i ∧ nt S i ≤ 4 ∧ ∀ k t, ts[k]? = some t → isTst w S (4 * i + k) t) ∧
  (∀ j j', j < nq S → j' < nq S → LQ j = LQ j' → j = j') ∧ (∀ i i', vP S i → vP S i' → P i = P i' → i = i') ∧ (∀ i i', vP S i → vP S i' → LT i = LT i' → i = i') ∧
  X.Nodup ∧ (∀ i, i ∈ X ↔ vP S i) ∧ isL g w li 13 (X.map P)
theorem vP_of {q k : Nat} (hq : q < nq S) (hk : k < np S q) (h3 : np S q ≤ 3) : vP S (3 * q + k) := by
  have e1 : (3 * q + k) / 3 = q := by omega
  have e2 : (3 * q + k) % 3 = k := by omega
  unfold vP
  rw [e1, e2]
  exact ⟨hq, hk⟩
theorem prL_get {P : Nat → Nat} {j k p : Nat} (h : (prL S P j)[k]? = some p) : k < np S j ∧ p = P (3 * j + k) := by
  unfold prL at h
  rw [List.getElem?_map] at h
  by_cases hk : k < np S j
  · rw [List.getElem?_range hk] at h
    cases h
    exact ⟨hk, rfl⟩
  · rw [List.getElem?_eq_none (by rw [List.length_range]; omega)] at h
    cases h
theorem isBs.ab {a lq d mm li : Nat} {qs : List Nat} {LQ P LT : Nat → Nat} {X : List Nat} (h : isBs g w a S lq d mm li qs LQ P LT X) : isAb g w a S lq d mm li qs := by
  obtain ⟨ha, hd, hlq, hlen, hnd, hq, hl, hp, -⟩ := h
  refine ⟨ha, hd, hlq, hlen, fun j q hj => ?_⟩
  have hjn : j < nq S := by rw [← hlen]; exact (List.getElem?_eq_some_iff.mp hj).1
  obtain ⟨h1, h2⟩ := hl j hjn
  refine ⟨prL S P j, LQ j, hq j q hj, h1, by simp [prL], h2, fun k p hk => ?_⟩
  obtain ⟨h3, rfl⟩ := prL_get hk
  obtain ⟨fd, ts, k1, k2, k3, k4, k5⟩ := hp _ (vP_of hjn h3 h2)
  exact ⟨LT (3 * j + k), ts, fd, k1, k2, k3, k4, k5⟩
theorem StS.vPi (hS : StS S S') (i : Nat) : vP S' i ↔ vP S i := by
  unfold vP np nq
  rw [hS.1, hS.2.1]
theorem StS.prLi (hS : StS S S') (P : Nat → Nat) (j : Nat) : prL S' P j = prL S P j := by
  unfold prL np
  rw [hS.2.1]
theorem isBs.dyn {a lq d mm li : Nat} {qs : List Nat} {LQ P LT : Nat → Nat} {X : List Nat} (h : isBs g w a S lq d mm li qs LQ P LT X) (hA : isAb g w' a S' lq d mm li qs) (hF : FrD w w') (hS : StS S S') : isBs g w' a S' lq d mm li qs LQ P LT X := by
  obtain ⟨ha, hd, hlq, hlen, hnd, hq, hl, hp, i1, i2, i3, x1, x2, x3⟩ := h
  have e1 : nq S' = nq S := by unfold nq; rw [hS.1]
  have e2 : ∀ j, np S' j = np S j := fun j => by unfold np; rw [hS.2.1]
  have e3 : ∀ i, nt S' i = nt S i := fun i => by unfold nt; rw [hS.2.2.1]
  refine ⟨hA.1, hA.2.1, hA.2.2.1, hA.2.2.2.1, hnd, fun j q hj => ?_, fun j hj => ?_, fun i hi => ?_, ?_, ?_, ?_, x1, fun i => (x2 i).trans (hS.vPi i).symm, x3.frD hF (by decide)⟩
  · obtain ⟨ps, l, hqo, -⟩ := hA.2.2.2.2 j q hj
    obtain ⟨fs', h2⟩ := hF.2 q (LQ j) _ (hq j q hj)
    rw [hqo] at h2
    cases h2
    exact hqo
  · rw [hS.prLi, e2]
    rw [e1] at hj
    exact ⟨(hl j hj).1.frD hF (by decide), (hl j hj).2⟩
  · obtain ⟨fd, ts, k1, k2, k3, k4, k5⟩ := hp i ((hS.vPi i).mp hi)
    exact ⟨fd, ts, hF.1 _ _ _ k1 (by decide) (by decide) (by decide), k2.frD hF (by decide), by rw [e3]; exact k3, by rw [e3]; exact k4, fun k t hk => (k5 k t hk).mono hF hS⟩
  · rw [e1]
    exact i1
  · intro i i' h1 h2
    exact i2 i i' ((hS.vPi i).mp h1) ((hS.vPi i').mp h2)
  · intro i i' h1 h2
    exact i3 i i' ((hS.vPi i).mp h1) ((hS.vPi i').mp h2)
/-- a frame that leaves the base: all but products' found -/
def FrX (w w' : Wd) : Prop := (∀ b y t, w b = some (y, t) → (10 ≤ t ∧ t ≤ 18 ∧ t ≠ 16) ∨ (∃ l fs tl, t = 1000 + l ∧ w l = some (ob 6 fs, tl) ∧ 12 ≤ tl ∧ tl ≤ 17 ∧ tl ≠ 16) → w' b = some (y, t)) ∧ ∀ b x y fd, w b = some (ob 3 [x, y, .int fd], 16) → ∃ fd', w' b = some (ob 3 [x, y, .int fd'], 16)
theorem FrX.rf : FrX w w := ⟨fun _ _ _ h _ => h, fun _ _ _ fd h => ⟨fd, h⟩⟩
theorem FrX.tr {w1 w2 w3 : Wd} (h1 : FrX w1 w2) (h2 : FrX w2 w3) : FrX w1 w3 := ⟨fun b y t hb hc => h2.1 b y t (h1.1 b y t hb hc) (by
  rcases hc with hc | ⟨l, fs, tl, c1, c2, c3⟩
  · exact Or.inl hc
  · exact Or.inr ⟨l, fs, tl, c1, h1.1 l _ tl c2 (Or.inl (by omega)), c3⟩), fun b x y fd hb => by
  obtain ⟨fd1, h3⟩ := h1.2 b x y fd hb
  exact h2.2 b x y fd1 h3⟩
/-- all that is not of the map, of strings, of the index's lists -/
theorem FrX.of (h : ∀ b y t, w b = some (y, t) → (10 ≤ t ∧ t ≤ 18) ∨ (∃ l fs tl, t = 1000 + l ∧ w l = some (ob 6 fs, tl) ∧ 12 ≤ tl ∧ tl ≤ 17 ∧ tl ≠ 16) → w' b = some (y, t)) : FrX w w' := ⟨fun b y t hb hc => h b y t hb (by
  rcases hc with hc | hc
  · exact Or.inl (by omega)
  · exact Or.inr hc), fun b x y fd hb => ⟨fd, h b _ 16 hb (Or.inl (by omega))⟩⟩
theorem isL.frX {l tl : Nat} {xs : List Nat} (h : isL g w l tl xs) (hF : FrX w w') (ht : 12 ≤ tl ∧ tl ≤ 17 ∧ tl ≠ 16) : isL g w' l tl xs := by
  obtain ⟨fs, hlo⟩ := h.obj
  refine h.kept (fun b y t hb hc => hF.1 b y t hb ?_)
  rcases hc with rfl | rfl
  · rw [hlo] at hb
    cases hb
    exact Or.inl (by omega)
  · exact Or.inr ⟨l, fs, tl, rfl, hlo, ht⟩
theorem isBs.frX {a lq d mm li : Nat} {qs : List Nat} {LQ P LT : Nat → Nat} {X : List Nat} (h : isBs g w a S lq d mm li qs LQ P LT X) (hF : FrX w w') : isBs g w' a S lq d mm li qs LQ P LT X := by
  obtain ⟨ha, hd, hlq, hlen, hnd, hq, hl, hp, i1, i2, i3, x1, x2, x3⟩ := h
  refine ⟨hF.1 _ _ _ ha (Or.inl (by decide)), hF.1 _ _ _ hd (Or.inl (by decide)), hlq.frX hF (by decide), hlen, hnd, fun j q hj => hF.1 _ _ _ (hq j q hj) (Or.inl (by decide)), fun j hj => ⟨(hl j hj).1.frX hF (by decide), (hl j hj).2⟩, fun i hi => ?_, i1, i2, i3, x1, x2, x3.frX hF (by decide)⟩
  obtain ⟨fd, ts, k1, k2, k3, k4, k5⟩ := hp i hi
  obtain ⟨fd', k1'⟩ := hF.2 _ _ _ _ k1
  exact ⟨fd', ts, k1', k2.frX hF (by decide), k3, k4, fun k t hk => (k5 k t hk).kept (fun b y hb => hF.1 b y 18 hb (Or.inl (by decide)))⟩
end STATE
/-! ===== the index ===== -/
section INDEX
variable {g : Gx} {w w' : Wd}
/-- the index: entries E, lists IX by key, of places -/
def isIX (g : Gx) (w : Wd) (mm : Nat) (E : List Dt) (IX : Nat → Nat → Nat → List Nat) (P : Nat → Nat) : Prop := isHM g w mm E ∧ (E.map (fun e => e.2.2)).Nodup ∧ (∀ e, e ∈ E → ∃ n a b, isKey n a b ∧ e.1 = hkey (kchars n a b) ∧ isStr g w e.2.1 (kchars n a b) ∧ isL g w e.2.2 19 ((IX n a b).map P)) ∧ ∀ n a b, isKey n a b → (∀ e, e ∈ E → e.1 ≠ hkey (kchars n a b)) → IX n a b = []
def FrI (g : Gx) (w w' : Wd) : Prop := (∀ b y t, w b = some (y, t) → t = 4 ∨ t = 5 ∨ t = 19 ∨ (∃ l fs, t = 1000 + l ∧ w l = some (ob 6 fs, 19)) → w' b = some (y, t)) ∧ ∀ b xs, isStr g w b xs → isStr g w' b xs
theorem isL.frI {l : Nat} {xs : List Nat} (h : isL g w l 19 xs) (hF : FrI g w w') : isL g w' l 19 xs := by
  obtain ⟨fs, hlo⟩ := h.obj
  refine h.kept (fun b y t hb hc => hF.1 b y t hb ?_)
  rcases hc with rfl | rfl
  · rw [hlo] at hb
    cases hb
    omega
  · exact Or.inr (Or.inr (Or.inr ⟨l, fs, rfl, hlo⟩))
theorem isIX.keep {mm : Nat} {E : List Dt} {IX : Nat → Nat → Nat → List Nat} {P : Nat → Nat} (h : isIX g w mm E IX P) (hF : FrI g w w') : isIX g w' mm E IX P := by
  obtain ⟨h1, h2, h3, h4⟩ := h
  refine ⟨h1.keep (fun b y t hb ht => hF.1 b y t hb (by omega)), h2, fun e he => ?_, h4⟩
  obtain ⟨n, a, b, k1, k2, k3, k4⟩ := h3 e he
  exact ⟨n, a, b, k1, k2, hF.2 _ _ k3, k4.frI hF⟩
end INDEX
