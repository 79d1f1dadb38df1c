/-! ===== ALERTINDEX: question, the state ===== -/
section QUESTION3
variable {g : Gx} {w w' : Wd} {S S' : St}
def questS (S : St) : St := up2 S 2 0 (S 2 0 + 1)
theorem FrQ.N {lq l : Nat} (h : FrQ w w' lq l) (hl : w l = none) : FrN w w' [lq, l] := fun b y t hb h1 h2 => by
  simp only [List.mem_cons, List.not_mem_nil, or_false, not_or] at h1
  exact h b y t hb h1.1 (h2 _ (by simp)) (h2 _ (by simp))
theorem questS_nq (h2 : S 2 0 = nI (nq S)) (hn : nq S < 1000) : nq (questS S) = nq S + 1 := by
  show (up2 S 2 0 (S 2 0 + 1) 2 0).toNatClampNeg = _
  rw [up2_s, h2, nI_1, nI_clamp (by omega)]
theorem questS_vP (h2 : S 2 0 = nI (nq S)) (hn : nq S < 1000) (hz : np S (nq S) = 0) (i : Nat) : vP (questS S) i ↔ vP S i := by
  have e : ∀ j, np (questS S) j = np S j := fun j => by unfold np questS; rw [up2_k (by decide)]
  unfold vP
  rw [questS_nq h2 hn, e]
  by_cases c : i / 3 = nq S
  · rw [c, hz]
    omega
  · omega
theorem isBs.question {a lq d mm li : Nat} {qs : List Nat} {LQ P LT : Nat → Nat} {X : List Nat} {q l : Nat} {fs : List Value} (h : isBs g w a S lq d mm li qs LQ P LT X) (h2 : S 2 0 = nI (nq S)) (hn : nq S < 1000) (hz : np S (nq S) = 0) (hA : isAb g w' a (questS S) lq d mm li (qs ++ [q])) (hF : FrQ w w' lq l) (hq0 : w q = none) (hl0 : w l = none) (hq' : w' q = some (ob 2 (.ref l :: fs), 14)) : isBs g w' a (questS S) lq d mm li (qs ++ [q]) (updN LQ (nq S) l) P LT X ∧ LsOK w [lq, l] := by
  obtain ⟨ha, hd, hlq, hlen, hnd, hq, hL, hP, i1, i2, i3, x1, x2, x3⟩ := h
  obtain ⟨fl, hlo⟩ := hlq.obj
  have hs : LsOK w [lq, l] := fun m hm => by
    simp only [List.mem_cons, List.not_mem_nil, or_false] at hm
    rcases hm with rfl | rfl
    · exact Or.inr ⟨_, _, hlo, by omega⟩
    · exact Or.inl hl0
  refine ⟨?_, hs⟩
  have hN := hF.N hl0
  have er : ∀ k, k ≠ 2 → questS S k = S k := fun k hk => by unfold questS; funext b; exact up2_k hk
  have e1 := questS_nq h2 hn
  have e2 : ∀ j, np (questS S) j = np S j := fun j => by unfold np; rw [er 5 (by decide)]
  have e3 := questS_vP h2 hn hz
  have e4 : ∀ j, nt (questS S) j = nt S j := fun j => by unfold nt; rw [er 10 (by decide)]
  have hkeep : ∀ {l' tl : Nat} {xs : List Nat}, isL g w l' tl xs → tl < 1000 → tl ≠ 12 → isL g w' l' tl xs := fun {l' tl xs} h' ht n1 => h'.frN hN (fun z => by
    simp only [List.mem_cons, List.not_mem_nil, or_false] at z
    rcases z with z | z
    · obtain ⟨fz, hzo⟩ := h'.obj
      rw [z, hlo] at hzo
      cases hzo
      exact n1 rfl
    · rw [z] at h'
      exact h'.ne hl0) hs ht
  have old : ∀ (j q2 : Nat), qs[j]? = some q2 → w' q2 = some (ob 2 [.ref (LQ j), .int (S 4 j), .int (S 6 j), .int (S 7 j), .int (S 8 j), .int (S 9 j)], 14) := fun j q2 hj => hN.ob hs (hq j q2 hj) (by decide)
  refine ⟨hA.1, hA.2.1, hA.2.2.1, hA.2.2.2.1, ?_, fun j q2 hj => ?_, fun j hj => ?_, fun j hj => ?_, ?_, ?_, ?_, x1, fun j => (x2 j).trans (e3 j).symm, hkeep x3 (by decide) (by decide)⟩
  · rw [List.nodup_append]
    refine ⟨hnd, by simp, fun b hb c hc z => ?_⟩
    rw [List.mem_singleton.mp hc] at z
    obtain ⟨j, hj⟩ := List.mem_iff_getElem?.mp hb
    have := hq j b hj
    rw [z, hq0] at this
    cases this
  · rw [er 4 (by decide), er 6 (by decide), er 7 (by decide), er 8 (by decide), er 9 (by decide)]
    by_cases hjl : j < qs.length
    · rw [List.getElem?_append_left hjl] at hj
      rw [updN_n (by omega)]
      exact old j q2 hj
    · obtain ⟨ps, l', ho, -⟩ := hA.2.2.2.2 j q2 hj
      have hj2 : j = qs.length := by
        have := (List.getElem?_eq_some_iff.mp hj).1
        simp at this
        omega
      rw [hj2, List.getElem?_append_right (Nat.le_refl _), Nat.sub_self] at hj
      cases hj
      rw [hq'] at ho
      cases ho
      have ejn : j = nq S := hj2.trans hlen
      subst ejn
      rw [updN_s, hq', er 4 (by decide), er 6 (by decide), er 7 (by decide), er 8 (by decide), er 9 (by decide)]
  · rw [e1] at hj
    have ep : prL (questS S) P j = prL S P j := by unfold prL; rw [e2]
    rw [ep, e2]
    by_cases hjn : j < nq S
    · rw [updN_n (by omega)]
      exact ⟨hkeep (hL j hjn).1 (by decide) (by decide), (hL j hjn).2⟩
    · have hjq : j = nq S := by omega
      have hgq : (qs ++ [q])[j]? = some q := by
        rw [List.getElem?_append_right (by omega), show j - qs.length = 0 by omega]
        rfl
      obtain ⟨ps, l', ho, b1, b2, b3, -⟩ := hA.2.2.2.2 j q hgq
      rw [hq'] at ho
      cases ho
      rw [e2, hjq, hz] at b2
      have eps : ps = [] := List.length_eq_zero_iff.mp b2
      rw [hjq, updN_s, hz]
      have : prL S P (nq S) = [] := by unfold prL; rw [hz]; rfl
      rw [this]
      rw [eps] at b1
      exact ⟨b1, by decide⟩
  · have hj := (e3 j).mp hj
    obtain ⟨fd, ts, c1, c2, c3, c4, c5⟩ := hP j hj
    refine ⟨fd, ts, hN.ob hs c1 (by decide), hkeep c2 (by decide) (by decide), by rw [e4]; exact c3, by rw [e4]; exact c4, fun k t hk => ((c5 k t hk).kept (fun b y hb => hN.ob hs hb (by decide))).cg (fun r h1 _ => by rw [er r (by omega)])⟩
  · intro j j' hj hj' he
    rw [e1] at hj hj'
    have hne : ∀ j, j < nq S → LQ j ≠ l := fun j hj z => by
      have := (hL j hj).1.ne
      rw [z] at this
      exact this hl0
    by_cases h1 : j < nq S
    · rw [updN_n (by omega)] at he
      by_cases h3 : j' < nq S
      · rw [updN_n (by omega)] at he
        exact i1 j j' h1 h3 he
      · rw [show j' = nq S by omega, updN_s] at he
        exact absurd he (hne j h1)
    · rw [show j = nq S by omega, updN_s] at he
      by_cases h3 : j' < nq S
      · rw [updN_n (by omega)] at he
        exact absurd he.symm (hne j' h3)
      · omega
  · intro j j' hj hj'
    exact i2 j j' ((e3 j).mp hj) ((e3 j').mp hj')
  · intro j j' hj hj'
    exact i3 j j' ((e3 j).mp hj) ((e3 j').mp hj')
end QUESTION3
