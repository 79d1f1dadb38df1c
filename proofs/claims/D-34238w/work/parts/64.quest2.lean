/-! ===== ALERTINDEX: question, the walk ===== -/
/-- the same rows but for the number of questions -/
theorem isQst.row2 {g : Gx} {w : Wd} {S : St} {v : Int32} {j q : Nat} {ps : List Nat} (h : isQst g w S j q ps) : isQst g w (up2 S 2 0 v) j q ps := by
  have e : ∀ k, k ≠ 2 → up2 S 2 0 v k = S k := fun k hk => by funext b; exact up2_k hk
  have hnp : np (up2 S 2 0 v) j = np S j := by unfold np; rw [e 5 (by decide)]
  obtain ⟨l, h1, h2, h3, h4, h5⟩ := h
  refine ⟨l, by rw [e 4 (by decide), e 6 (by decide), e 7 (by decide), e 8 (by decide), e 9 (by decide)]; exact h1, h2, by rw [hnp]; exact h3, by rw [hnp]; exact h4, fun k p hk => ?_⟩
  obtain ⟨l2, ts, fd, p1, p2, p3, p4, p5⟩ := h5 k p hk
  have hnt : nt (up2 S 2 0 v) (3 * j + k) = nt S (3 * j + k) := by unfold nt; rw [e 10 (by decide)]
  refine ⟨l2, ts, fd, p1, p2, by rw [hnt]; exact p3, by rw [hnt]; exact p4, fun k2 t hk2 => ?_⟩
  have hr : ∀ z r, isRng w S z r → isRng w (up2 S 2 0 v) z r := fun z r hz => by
    unfold isRng at hz ⊢
    rw [e 11 (by decide), e 12 (by decide), e 13 (by decide)]
    exact hz
  rcases p5 k2 t hk2 with ⟨a, b⟩ | ⟨a, r, b, c⟩
  · exact Or.inl ⟨by rw [e 14 (by decide)]; exact a, hr _ _ b⟩
  · exact Or.inr ⟨by rw [e 14 (by decide)]; exact a, r, b, hr _ _ c⟩
section QUESTION2
variable {g : Gx} {w : Wd} {S : St}
/-- the rows of a question that is not yet -/
def zeroQ (S : St) (n : Nat) : Prop := S 4 n = 0 ∧ np S n = 0 ∧ S 6 n = 0 ∧ S 7 n = 0 ∧ S 8 n = 0 ∧ S 9 n = 0
def FrQ (w w' : Wd) (lq l : Nat) : Prop := ∀ b y t, w b = some (y, t) → b ≠ lq → t ≠ 1000 + lq → t ≠ 1000 + l → w' b = some (y, t)
theorem question_ctA {a lq d mm li : Nat} {qs : List Nat} (hA : isAb g w a S lq d mm li qs) (hI : InvA S) (hZ : nq S < 20 → zeroQ S (nq S)) (hdis : lq ∉ qs) : Ct g yX1_question cX1_question 1 (some .int) 7 4 (25+2*qs.length) [.ref a] w (fun o w' => questK S = 0 ∧ o = rI (S 2 0) ∧ ∃ q l, w q = none ∧ w l = none ∧ isAb g w' a (up2 S 2 0 (S 2 0 + 1)) lq d mm li (qs ++ [q]) ∧ FrQ w w' lq l ∧ ∃ fs, w' q = some (ob 2 (.ref l :: fs), 14)) (XX w cISE (decide (questK S = 0))) := by
  refine Ct.of RX1 "question" ⟨rfl, rfl⟩ (by decide +kernel) (by simp [Value.category] <;> exact cat_rf _) (Nat.le_of_ble_eq_true rfl) (fun x ok hQ hN => ?_)
  show Z g x 1 0 [some (.ref a)] [] w 4 (25+2*qs.length)
  have hA0 := hA
  obtain ⟨ha, hd, hl, hlen, hqs⟩ := hA
  obtain ⟨hn1, hn2⟩ := hI.1
  obtain ⟨fsl, hlo⟩ := hl.obj
  have key : ∀ b : Bool, b = decide (questK S = 0) → Z g x 1 19 [some (.ref a)] [.int (bI b)] w 4 (25+2*qs.length) := by
    intro b hb
    refine Z.callS (kc' := 3) (ks' := (19+2*qs.length)) ok (allow_ct b) q989 q990 q16 q991 nk_X1_allow rfl (by decide) (by first | exact Nat.le_of_ble_eq_true rfl | simp [Value.category, cat_rf]) (by omega) (by omega) dX1_question_19 rfl (fun E q w' h => ZX.out ok hQ ⟨h.1, h.2.1, hb ▸ h.2.2⟩) (fun v w1 hr => ?_)
    obtain ⟨rfl, rfl, hb2⟩ := hr
    have hk : questK S = 0 := of_decide_eq_true (hb ▸ hb2)
    have h20 : nq S < 20 := by
      refine Nat.lt_of_le_of_ne hn2 (fun z => ?_)
      unfold questK at hk
      rw [hn1, z, if_pos (by decide)] at hk
      cases hk
    obtain ⟨z4, z5, z6, z7, z8, z9⟩ := hZ h20
    refine Z.room (kc' := 2 + 1) (ks' := (13 + 2 * qs.length) + 6) (by omega) (by omega) ?_
    refine Z.aload_n ok dX1_question_22 rfl (by first | exact isRf.r _ | exact isRf.n | exact isRf.v _ | assumption) ?_
    refine Z.get (ci := 0) (C := RX1) (T := TX1) (N := 5) ok (by first | assumption | exact ws_s | exact hT _ (by assumption) | (rw [ws_n (by assumption)]; assumption)) rfl in_X1 0 (by decide) q122 (Or.inl rfl) (by rfl) dX1_question_23 ?_
    refine Z.new (ci := 2) (C := RX3) (T := TX3) (N := 6) (fs := [.null, .int 0, .int 0, .int 0, .int 0, .int 0]) (ty := tyX3) 14 ok rfl in_X3 tyX3_ok q171 q1013 q27 (def_ok (by decide +kernel)) (Nat.le_refl _) (Nat.le_refl _) dX1_question_26 (fun q hqn hqA => ?_)
    refine Z.dup ok dX1_question_29 (by first | rfl | exact cat_rf _) ?_
    have hF0 : ∀ b, w b ≠ none → wset w q (ob 2 [.null, .int 0, .int 0, .int 0, .int 0, .int 0]) 14 b = w b := fun b hb => ws_n (fun z => hb (by rw [z]; exact hqn))
    refine Z.callIN (kc' := 1) (ks' := (10+2*qs.length)) ok (qInit_ct ws_s) q1014 q1015 q27 q1016 rfl nk_X3_init rfl (by decide) (by first | exact Nat.le_of_ble_eq_true rfl | simp [Value.category, cat_rf]) (by omega) (by omega) dX1_question_30 rfl ZX.no (fun v w2 hr => ?_)
    obtain ⟨rfl, l, hl0, hq2, hL2, hF2⟩ := hr
    have hwl : w l = none := by
      cases hx : w l with
      | none => rfl
      | some y =>
        have := hF0 l (by rw [hx]; exact Option.some_ne_none _)
        rw [hl0, hx] at this
        cases this
    have hF3 : ∀ b y t, w b = some (y, t) → t ≠ 1000 + l → w2 b = some (y, t) := fun b y t hb ht => by
      have hbq : b ≠ q := fun z => by rw [z, hqn] at hb; cases hb
      exact hF2 b y t ((ws_n hbq).trans hb) hbq ht
    have hlq2 : isL g w2 lq 12 qs := by
      refine hl.kept (fun b y t hb hc => hF3 b y t hb ?_)
      rcases hc with rfl | rfl
      · rw [hlo] at hb
        cases hb
        omega
      · have : lq ≠ l := fun z => by rw [z, hwl] at hlo; cases hlo
        omega
    obtain ⟨fs2, hlo2⟩ := hlq2.obj
    have hqlq : q ≠ lq := fun z => by rw [← z, hqn] at hlo; cases hlo
    have hel : ∀ y, y ∈ qs → ∃ fs t, w2 y = some (ob 2 fs, t) := fun y hy => by
      obtain ⟨j, hj⟩ := List.mem_iff_getElem?.mp hy
      obtain ⟨ps, l', h1, -⟩ := hqs j y hj
      exact ⟨_, _, hF3 _ _ _ h1 (by omega)⟩
    refine Z.callF (kc' := 0) (ks' := 0) (ci := 6) (q := (RJ2, TJ2, 3)) (C := RJ2) ok (alistAdd_ct (ci := 2) (cv := 2) (v := q) hlq2 (by decide) (by omega) rfl (q1645) hel hdis hq2 hqlq (by omega) rfl (q1645)) hlo2 rfl rfl q1045 ⟨q1047, q1046, q1051, q1049, q146⟩ q1050 (Or.inl q1048) q19 q1052 nkF_List_add rfl (by decide) (by first | exact Nat.le_of_ble_eq_true rfl | simp [Value.category, cat_rf]) (by omega) (by omega) dX1_question_33 rfl ZX.no (fun v w3 hr => ?_)
    obtain ⟨rfl, hL3, hF4⟩ := hr
    have hF5 : FrQ w w3 lq l := fun b y t hb h1 h2 h3 => hF4 b y t (hF3 b y t hb h3) h1 h2
    have nalq : a ≠ lq := fun z => by rw [z, hlo] at ha; cases ha
    have ndlq : d ≠ lq := fun z => by rw [z, hlo] at hd; cases hd
    have ha3 := hF5 _ _ _ ha nalq (by omega) (by omega)
    have hd3 := hF5 _ _ _ hd ndlq (by omega) (by omega)
    obtain ⟨fs3, hlo3⟩ := hL3.obj
    refine Z.pop ok dX1_question_38 (by first | rfl | exact cat_rf _) ?_
    refine Z.aload_n ok dX1_question_39 rfl (by first | exact isRf.r _ | exact isRf.n | exact isRf.v _ | assumption) ?_
    refine Z.get (ci := 0) (C := RX1) (T := TX1) (N := 5) ok (by first | assumption | exact ws_s | exact hT _ (by assumption) | (rw [ws_n (by assumption)]; assumption)) rfl in_X1 0 (by decide) q122 (Or.inl rfl) (by rfl) dX1_question_40 ?_
    refine Z.callF (kc' := 0) (ks' := 0) (ci := 6) (q := (RJ2, TJ2, 3)) (C := RJ2) ok (alistSize_ct hL3) hlo3 rfl rfl q143 ⟨q145, q144, q150, q148, q146⟩ q149 (Or.inl q147) q19 q151 nkF_List_size rfl (by decide) (by first | exact Nat.le_of_ble_eq_true rfl | simp [Value.category, cat_rf]) (by omega) (by omega) dX1_question_43 rfl ZX.no (fun v w4 hr => ?_)
    obtain ⟨rfl, rfl⟩ := hr
    refine Z.iconst_1 ok dX1_question_48 ?_
    refine Z.isub ok dX1_question_49 ?_
    rw [List.length_append, hlen, show nI (nq S + [q].length) - 1 = nI (nq S) from nI_pred _]
    refine Z.iret ok hQ (by first | rfl | exact bI_nar _) dX1_question_50 ?_
    have llq : l ≠ lq := fun z => by rw [z, hlo] at hwl; cases hwl
    have en : nq (up2 S 2 0 (S 2 0 + 1)) = nq S + 1 := by
      show (up2 S 2 0 (S 2 0 + 1) 2 0).toNatClampNeg = _
      rw [up2_s, hn1, nI_1, nI_clamp (by omega)]
    refine ⟨hk, by rw [hn1], q, l, hqn, hwl, ⟨by rw [ha3, up2_k (by decide)], ?_, hL3, by rw [List.length_append, hlen, en]; rfl, fun j q2 hj => ?_⟩, hF5, _, hF4 _ _ _ hq2 hqlq (by omega)⟩
    · rw [hd3]
      congr 3
    · by_cases hjl : j < qs.length
      · rw [List.getElem?_append_left hjl] at hj
        obtain ⟨ps, hq2⟩ := hqs j q2 hj
        refine ⟨ps, (hq2.kept (fun b y t hb hc => ?_)).row2⟩
        have hblq : t ≠ 12 := by
          rcases hc with z | z | z | z | z | ⟨_, _, _, z, _⟩ <;> omega
        refine hF5 b y t hb (fun z => ?_) (fun z => ?_) (fun z => ?_)
        · rw [z, hlo] at hb
          cases hb
          exact hblq rfl
        · rcases hc with c | c | c | c | c | ⟨l2, f2, tl, c, c2, c3⟩ <;> try omega
          have : l2 = lq := by omega
          rw [this, hlo] at c2
          cases c2
          omega
        · rcases hc with c | c | c | c | c | ⟨l2, f2, tl, c, c2, c3⟩ <;> try omega
          have : l2 = l := by omega
          rw [this, hwl] at c2
          cases c2
      · have hj2 : j = qs.length := by
          have := (List.getElem?_eq_some_iff.mp hj).1
          simp at this
          omega
        rw [hj2, List.getElem?_append_right (Nat.le_refl _), Nat.sub_self] at hj
        cases hj
        have hq3 := hF4 _ _ _ hq2 hqlq (by omega)
        have hL4 : isL g w3 l 15 [] := by
          obtain ⟨fl, hlo4⟩ := hL2.obj
          refine hL2.kept (fun b y t hb hc => hF4 b y t hb (fun z => ?_) ?_)
          · rw [z, hlo2] at hb
            cases hb
            rcases hc with c | c <;> omega
          · rcases hc with rfl | rfl
            · rw [hlo4] at hb
              cases hb
              omega
            · omega
        rw [hj2, hlen]
        refine ⟨[], l, ?_, hL4, ?_, ?_, fun k p hk => by cases hk⟩
        · rw [hq3, up2_k (by decide), up2_k (by decide), up2_k (by decide), up2_k (by decide), up2_k (by decide), z4, z6, z7, z8, z9]
        · show 0 = np (up2 S 2 0 (S 2 0 + 1)) (nq S)
          have : np (up2 S 2 0 (S 2 0 + 1)) (nq S) = np S (nq S) := by unfold np; rw [up2_k (by decide)]
          rw [this, z5]
        · have : np (up2 S 2 0 (S 2 0 + 1)) (nq S) = np S (nq S) := by unfold np; rw [up2_k (by decide)]
          rw [this, z5]
          omega
  refine Z.aload_n ok dX1_question_0 rfl (by first | exact isRf.r _ | exact isRf.n | exact isRf.v _ | assumption) ?_
  refine Z.get (ci := 0) (C := RX1) (T := TX1) (N := 5) ok (by first | assumption | exact ws_s | exact hT _ (by assumption) | (rw [ws_n (by assumption)]; assumption)) rfl in_X1 0 (by decide) q122 (Or.inl rfl) (by rfl) dX1_question_1 ?_
  refine Z.callF (kc' := 4) (ks' := (25+2*qs.length)) (ci := 6) (q := (RJ2, TJ2, 3)) (C := RJ2) ok (alistSize_ct hl) hlo rfl rfl q143 ⟨q145, q144, q150, q148, q146⟩ q149 (Or.inl q147) q19 q151 nkF_List_size rfl (by decide) (by first | exact Nat.le_of_ble_eq_true rfl | simp [Value.category, cat_rf]) (by omega) (by omega) dX1_question_4 rfl ZX.no (fun v w1 hr => ?_)
  obtain ⟨rfl, rfl⟩ := hr
  rw [show nI qs.length = nI (nq S) by rw [hlen]]
  refine Z.bipush (v := 20) ok dX1_question_9 (by decide) ?_
  by_cases hc0 : nq S < 20
  · refine Z.icmp_ge (tgt := 18) ok dX1_question_11 (by decide) (fun hc => absurd hc (show ¬ nI 20 ≤ nI (nq S) from nI_ge hc0 (by decide))) (fun _ => ?_)
    refine Z.iconst_1 ok dX1_question_14 ?_
    refine Z.goto (tgt := 19) ok dX1_question_15 (by decide) ?_
    refine key true ?_
    unfold questK
    rw [hn1, if_neg (fun z => by have := (nI_eq (by omega) (by decide)).mp (show nI (nq S) = nI 20 from z); omega)]
    rfl
  · refine Z.icmp_ge (tgt := 18) ok dX1_question_11 (by decide) (fun _ => ?_) (fun hc => absurd (show nI 20 ≤ nI (nq S) from nI_le (by omega) (by omega)) hc)
    refine Z.iconst_0 ok dX1_question_18 ?_
    refine key false ?_
    have : nq S = 20 := by omega
    unfold questK
    rw [hn1, this]
    rfl
end QUESTION2
