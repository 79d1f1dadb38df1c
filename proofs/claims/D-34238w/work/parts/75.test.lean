/-! ===== ALERTINDEX: test, the state ===== -/
section TEST
variable {g : Gx} {w w' : Wd} {S S' : St}
/-- one more test at the place i0 -/
def StT (S S' : St) (i0 : Nat) : Prop := (∀ r, r < 10 → S' r = S r) ∧ (∀ j, nt S' j = if j = i0 then nt S i0 + 1 else nt S j) ∧ ∀ r k, 11 ≤ r → r ≤ 14 → k ≠ 4 * i0 + nt S i0 → S' r k = S r k
theorem testS_row (S : St) (q : Nat) (nm lo hi b : Int32) (h : S 10 (lastN S q) = nI (nt S (lastN S q))) (h4 : nt S (lastN S q) < 1000) : StT S (testS S q nm lo hi b) (lastN S q) ∧ testS S q nm lo hi b 11 (4 * lastN S q + nt S (lastN S q)) = nm ∧ testS S q nm lo hi b 12 (4 * lastN S q + nt S (lastN S q)) = lo ∧ testS S q nm lo hi b 13 (4 * lastN S q + nt S (lastN S q)) = hi ∧ testS S q nm lo hi b 14 (4 * lastN S q + nt S (lastN S q)) = b := by
  unfold testS
  refine ⟨⟨fun r hr => ?_, fun j => ?_, fun r k h1 h2 h3 => ?_⟩, ?_, ?_, ?_, ?_⟩
  · rw [up2_rowk (by omega), up2_rowk (by omega), up2_rowk (by omega), up2_rowk (by omega), up2_rowk (by omega)]
  · by_cases e : j = lastN S q
    · rw [if_pos e, e]
      unfold nt
      rw [up2_s, h, nI_1, nI_clamp (by omega), nI_clamp (by omega)]
    · rw [if_neg e]
      unfold nt
      rw [up2_j e, up2_k (by decide), up2_k (by decide), up2_k (by decide), up2_k (by decide)]
  · rw [up2_k (by omega), up2_j h3, up2_j h3, up2_j h3, up2_j h3]
  · rw [up2_k (by decide), up2_k (by decide), up2_k (by decide), up2_k (by decide), up2_s]
  · rw [up2_k (by decide), up2_k (by decide), up2_k (by decide), up2_s]
  · rw [up2_k (by decide), up2_k (by decide), up2_s]
  · rw [up2_k (by decide), up2_s]
theorem isTst.cg {k t : Nat} (h : isTst w S k t) (hS : ∀ r, 11 ≤ r → r ≤ 14 → S' r k = S r k) : isTst w S' k t := by
  have hr : ∀ r, isRng w S k r → isRng w S' k r := fun r hz => by
    unfold isRng at hz ⊢
    rw [hS 11 (by decide) (by decide), hS 12 (by decide) (by decide), hS 13 (by decide) (by decide)]
    exact hz
  rcases h with ⟨a, b⟩ | ⟨a, r, b, c⟩
  · exact Or.inl ⟨by rw [hS 14 (by decide) (by decide)]; exact a, hr _ b⟩
  · exact Or.inr ⟨by rw [hS 14 (by decide) (by decide)]; exact a, r, b, hr _ c⟩
theorem StT.nqq {i0 : Nat} (hS : StT S S' i0) : nq S' = nq S := by unfold nq; rw [hS.1 2 (by decide)]
theorem StT.npp {i0 : Nat} (hS : StT S S' i0) (j : Nat) : np S' j = np S j := by unfold np; rw [hS.1 5 (by decide)]
theorem StT.vPi {i0 : Nat} (hS : StT S S' i0) (j : Nat) : vP S' j ↔ vP S j := by unfold vP; rw [hS.nqq, hS.npp]
theorem isBs.test {a lq d mm li : Nat} {qs : List Nat} {LQ P LT : Nat → Nat} {X : List Nat} {i0 t : Nat} {ts : List Nat} (h : isBs g w a S lq d mm li qs LQ P LT X) (hS : StT S S' i0) (hv : vP S i0) (h4 : nt S i0 < 4) (hF : FrN w w' [LT i0]) (hl : isL g w (LT i0) 17 ts) (hlen : ts.length = nt S i0) (hts : ∀ k t, ts[k]? = some t → isTst w S (4 * i0 + k) t) (k1 : isL g w' (LT i0) 17 (ts ++ [t])) (k2 : isTst w' S' (4 * i0 + nt S i0) t) : isBs g w' a S' lq d mm li qs LQ P LT X ∧ LsOK w [LT i0] := by
  obtain ⟨ha, hd, hlq, hqlen, hnd, hq, hL, hP, i1, i2, i3, x1, x2, x3⟩ := h
  obtain ⟨fl, hlo⟩ := hl.obj
  have hs : LsOK w [LT i0] := fun m hm => by
    rw [List.mem_singleton.mp hm]
    exact Or.inr ⟨_, _, hlo, by omega⟩
  refine ⟨?_, hs⟩
  have er : ∀ k, k < 10 → S' k = S k := hS.1
  have e1 := hS.nqq
  have e2 := hS.npp
  have hkeep : ∀ {l' tl : Nat} {xs : List Nat}, isL g w l' tl xs → tl < 1000 → tl ≠ 17 → isL g w' l' tl xs := fun {l' tl xs} h' ht hn => h'.frN hF (fun z => by
    obtain ⟨fz, hzo⟩ := h'.obj
    rw [List.mem_singleton.mp z, hlo] at hzo
    cases hzo
    exact hn rfl) hs ht
  refine ⟨by rw [er 1 (by decide)]; exact hF.ob hs ha (by decide), by rw [er 3 (by decide)]; exact hF.ob hs hd (by decide), hkeep hlq (by decide) (by decide), by rw [e1]; exact hqlen, hnd, fun j q hj => ?_, fun j hj => ?_, fun j hj => ?_, by rw [e1]; exact i1, ?_, ?_, x1, fun j => (x2 j).trans (hS.vPi j).symm, hkeep x3 (by decide) (by decide)⟩
  · rw [er 4 (by decide), er 6 (by decide), er 7 (by decide), er 8 (by decide), er 9 (by decide)]
    exact hF.ob hs (hq j q hj) (by decide)
  · rw [e1] at hj
    obtain ⟨b1, b2⟩ := hL j hj
    have ep : prL S' P j = prL S P j := by unfold prL; rw [e2]
    rw [ep, e2]
    exact ⟨hkeep b1 (by decide) (by decide), b2⟩
  · have hj := (hS.vPi j).mp hj
    by_cases e : j = i0
    · subst e
      obtain ⟨fd, _, c1, -⟩ := hP j hj
      refine ⟨fd, ts ++ [t], hF.ob hs c1 (by decide), k1, ?_, ?_, fun k u hk => ?_⟩
      · rw [hS.2.1, if_pos rfl, List.length_append, hlen]
        rfl
      · rw [hS.2.1, if_pos rfl]
        omega
      · by_cases hkl : k < ts.length
        · rw [List.getElem?_append_left hkl] at hk
          exact ((hts k u hk).kept (fun b y hb => hF.ob hs hb (by decide))).cg (fun r h1 h2 => hS.2.2 r _ h1 h2 (by omega))
        · have hk2 : k = ts.length := by
            have := (List.getElem?_eq_some_iff.mp hk).1
            simp at this
            omega
          rw [hk2, List.getElem?_append_right (Nat.le_refl _), Nat.sub_self] at hk
          cases hk
          rw [hk2, hlen]
          exact k2
    · obtain ⟨fd, us, c1, c2, c3, c4, c5⟩ := hP j hj
      refine ⟨fd, us, hF.ob hs c1 (by decide), c2.frN hF (fun z => e (i3 j i0 hj hv (List.mem_singleton.mp z))) hs (by decide), by rw [hS.2.1, if_neg e]; exact c3, by rw [hS.2.1, if_neg e]; exact c4, fun k u hk => ?_⟩
      have hkl := (List.getElem?_eq_some_iff.mp hk).1
      exact ((c5 k u hk).kept (fun b y hb => hF.ob hs hb (by decide))).cg (fun r h1 h2 => hS.2.2 r _ h1 h2 (by omega))
  · intro j j' hj hj'
    exact i2 j j' ((hS.vPi j).mp hj) ((hS.vPi j').mp hj')
  · intro j j' hj hj'
    exact i3 j j' ((hS.vPi j).mp hj) ((hS.vPi j').mp hj')
end TEST
