/-! ===== THE REFERENCE: its constructor ===== -/
section MODEL7
variable {g : Gx} {w : Wd} {m : Nat} {x : Cx}
/-- half made: the arrays of the fields below K -/
def MRp (g : Gx) (w : Wd) (m : Nat) (ad : Nat → Nat) (fs : List Value) (K : Nat) : Prop := w m = some (ob 1 fs, 2) ∧ ∀ k, 3 ≤ k → k < K → w (ad k) = some (mArr g k (fun _ => 0), 20 + k)
theorem MRp.step {ad : Nat → Nat} {fs : List Value} {K q : Nat} (h : MRp g w m ad fs K) (hq : w q = none) : MRp g (wset (wset w q (mArr g K (fun _ => 0)) (20 + K)) m (ob 1 (fs.set K (.ref q))) 2) m (fun i => if i = K then q else ad i) (fs.set K (.ref q)) (K + 1) ∧ FrM w (wset (wset w q (mArr g K (fun _ => 0)) (20 + K)) m (ob 1 (fs.set K (.ref q))) 2) := by
  have hqm : q ≠ m := fun e => by
    rw [e, h.1] at hq
    cases hq
  refine ⟨⟨ws_s, fun k k3 kK => ?_⟩, fun a e t ha ht => ?_⟩
  · by_cases hk : k = K
    · subst hk
      simp only [if_pos]
      rw [ws_n hqm, ws_s]
    · simp only [if_neg hk]
      have h1 := h.2 k k3 (by omega)
      have n1 : ad k ≠ m := fun e => by
        rw [e, h.1] at h1
        have := congrArg (fun o : Option (va_E × Nat) => o.map (·.2)) h1
        simp at this
        omega
      have n2 : ad k ≠ q := fun e => by
        rw [e, hq] at h1
        cases h1
      rw [ws_n n1, ws_n n2]
      exact h1
  · have n1 : a ≠ m := fun e => by
      rw [e, h.1] at ha
      cases ha
      exact ht (Or.inl rfl)
    have n2 : a ≠ q := fun e => by
      rw [e, hq] at ha
      cases ha
    rw [ws_n n1, ws_n n2]
    exact ha
theorem MRp.keep {ad : Nat → Nat} {fs : List Value} {K q t : Nat} {e : va_E} (h : MRp g w m ad fs K) (hq : w q = none) : wset w q e t m = some (ob 1 fs, 2) := by
  rw [ws_n (fun e => by rw [← e, h.1] at hq; cases hq)]
  exact h.1
theorem Z.cw {g : Gx} {x : Cx} {nL pc : Nat} {L : List (Option Value)} {st : List Value} {w w' : Wd} {kc ks : Nat} (h : w' = w) (kk : Z g x nL pc L st w' kc ks) : Z g x nL pc L st w kc ks := h ▸ kk
def mDraft (n : Nat) : St := fun a b => if a = 3 ∧ b < n then -1 else 0
theorem mDraft_0 (k : Nat) : mDraft 0 k = fun _ => 0 := by
  funext b
  unfold mDraft
  rw [if_neg (by omega)]
theorem mDraft_s (n : Nat) : up2 (mDraft n) 3 n (-1) = mDraft (n + 1) := by
  funext a b
  unfold up2 mDraft
  by_cases h : a = 3 ∧ b = n
  · rw [if_pos h, if_pos (by omega)]
  · rw [if_neg h]
    by_cases h2 : a = 3 ∧ b < n
    · rw [if_pos h2, if_pos (by omega)]
    · rw [if_neg h2, if_neg (by omega)]
theorem MRp.fin {ad : Nat → Nat} {fs : List Value} (h : MRp g w m ad fs 15) (hf : fs = mFs 0 (mDraft 0) ad) : ∃ ad, MR g w m ad (mDraft 0) 0 := ⟨ad, by rw [← hf]; exact h.1, fun k k3 k14 => by rw [mDraft_0]; exact h.2 k k3 (by omega)⟩
theorem initM_lp (ok : OK g x RX2 cX2_init 2 1 none) {w0 : Wd} {ad : Nat → Nat} (kk : ∀ w, MR g w m ad (mDraft 6) 0 → FrM w0 w → Z g x 2 125 [some (.ref m), some (.int (nI 6))] [] w 0 0) : ∀ d k, k + d = 6 → ∀ w, MR g w m ad (mDraft k) 0 → FrM w0 w → Z g x 2 106 [some (.ref m), some (.int (nI k))] [] w 0 0 := by
  intro d
  induction d with
  | zero =>
    intro k hk w hM hF
    have h6 : k = 6 := by omega
    subst h6
    refine Z.iload_n ok dX2_init_106 rfl ?_
    refine Z.bipush (v := 6) ok dX2_init_107 (by decide) ?_
    refine Z.icmp_ge (tgt := 125) ok dX2_init_109 (by decide) (fun _ => ?_) (fun hc => absurd (by decide) hc)
    exact kk w hM hF
  | succ d ih =>
    intro k hk w hM hF
    have hm := hM.o
    have h3 := hM.a3
    refine Z.iload_n ok dX2_init_106 rfl ?_
    refine Z.bipush (v := 6) ok dX2_init_107 (by decide) ?_
    refine Z.icmp_ge (tgt := 125) ok dX2_init_109 (by decide) (fun hc => absurd hc (by rw [show (6 : Int32) = nI 6 from rfl]; exact nI_ge (by omega) (by omega))) (fun _ => ?_)
    refine Z.aload_n ok dX2_init_112 rfl (by first | exact isRf.r _ | exact isRf.n | exact isRf.v _ | assumption) ?_
    refine Z.get (ci := 1) (C := RX2) (T := TX2) (N := 15) ok (by first | assumption | exact ws_s | (rw [ws_n (by assumption)]; assumption)) rfl in_X2 3 (by decide) q1456 (Or.inl rfl) (by rfl) dX2_init_113 ?_
    refine Z.iload_n ok dX2_init_116 rfl ?_
    refine Z.iconst_m1 ok dX2_init_117 ?_
    refine Z.iastN ok h3 (by decide) (by omega) (by decide) dX2_init_118 ?_
    obtain ⟨hM1, hF1⟩ := hM.st 3 k (-1) (by decide) (by decide)
    rw [mDraft_s] at hM1
    refine Z.iinc ok dX2_init_119 rfl rfl ?_
    refine Z.goto (tgt := 106) ok dX2_init_122 (by decide) ?_
    simp only [m3, m4, nI_add, nI_1, i1, List.set_cons_zero, List.set_cons_succ]
    exact ih (k + 1) (by omega) _ hM1 (hF.tr hF1)
def mZero : List Value := [.int 0, .int 0, .int 0, .null, .null, .null, .null, .null, .null, .null, .null, .null, .null, .null, .null]
theorem initM_ct (hm : w m = some (ob 1 mZero, 2)) : Ct g yX2_init cX2_init 2 none 1 12 1146 [.ref m] w (fun v w' => v = none ∧ FrM w w' ∧ ∃ ad, MR g w' m ad (mDraft 6) 0) noX := by
  refine Ct.of RX2 "<init>" ⟨rfl, rfl⟩ (by decide +kernel) (by simp [Value.category]) (Nat.le_of_ble_eq_true rfl) (fun x ok hQ hN => ?_)
  show Z g x 2 0 [some (.ref m), none] [] w 12 1146
  have hM : MRp g w m (fun _ => 0) mZero 3 := ⟨hm, fun k a b => by omega⟩
  have hF0 : FrM w w := FrM.rf
  refine Z.aload_n ok dX2_init_0 rfl (by first | exact isRf.r _ | exact isRf.n | exact isRf.v _ | assumption) ?_
  refine Z.objInit ok q1452 q61 q62 (by decide) (by first | exact Nat.le_of_ble_eq_true rfl | simp [Value.category, cat_rf]) dX2_init_1 ?_
  have hm := hM.1
  refine Z.aload_n ok dX2_init_4 rfl (by first | exact isRf.r _ | exact isRf.n | exact isRf.v _ | assumption) ?_
  refine Z.bipush (v := 6) ok dX2_init_5 (by decide) ?_
  refine Z.newI (N := 6) (kc' := 11) (ks' := 1140) 23 ok q121 (by decide) (by decide) (by decide) (by omega) (by omega) dX2_init_7 (fun q3 hq3n hq3A => ?_)
  have hmq := hM.keep (e := mArr g 3 (fun _ => 0)) (t := 23) hq3n
  refine Z.putF (ci := 1) (C := RX2) (T := TX2) (N := 15) (ty0 := tyX2) ok (by first | assumption | exact ws_s | (rw [ws_n (by assumption)]; assumption)) (by decide) rfl in_X2 tyX2_ok nmX2 3 (by decide) q1456 (Or.inl rfl) rfl hN rfl (okV_a (by first | exact isRf.r _ | exact isRf.n | exact isRf.v _ | assumption)) (by rfl) dX2_init_9 ?_
  obtain ⟨hM, hF1⟩ := hM.step hq3n
  generalize hw1 : wset (wset w q3 (mArr g 3 (fun _ => 0)) (20 + 3)) m _ 2 = w1 at hM hF1
  refine Z.cw (w' := w1) hw1.symm ?_
  have hF0 := hF0.tr hF1
  have hm := hM.1
  refine Z.aload_n ok dX2_init_12 rfl (by first | exact isRf.r _ | exact isRf.n | exact isRf.v _ | assumption) ?_
  refine Z.bipush (v := 20) ok dX2_init_13 (by decide) ?_
  refine Z.newZ (N := 20) (kc' := 10) (ks' := 1120) 24 ok q1499 (by decide) (by decide) (by decide) (by omega) (by omega) dX2_init_15 (fun q4 hq4n hq4A => ?_)
  have hmq := hM.keep (e := mArr g 4 (fun _ => 0)) (t := 24) hq4n
  refine Z.putF (ci := 1) (C := RX2) (T := TX2) (N := 15) (ty0 := tyX2) ok (by first | assumption | exact ws_s | (rw [ws_n (by assumption)]; assumption)) (by decide) rfl in_X2 tyX2_ok nmX2 4 (by decide) q1457 (Or.inl rfl) rfl hN rfl (okV_a (by first | exact isRf.r _ | exact isRf.n | exact isRf.v _ | assumption)) (by rfl) dX2_init_17 ?_
  obtain ⟨hM, hF1⟩ := hM.step hq4n
  generalize hw2 : wset (wset w1 q4 (mArr g 4 (fun _ => 0)) (20 + 4)) m _ 2 = w2 at hM hF1
  refine Z.cw (w' := w2) hw2.symm ?_
  have hF0 := hF0.tr hF1
  have hm := hM.1
  refine Z.aload_n ok dX2_init_20 rfl (by first | exact isRf.r _ | exact isRf.n | exact isRf.v _ | assumption) ?_
  refine Z.bipush (v := 20) ok dX2_init_21 (by decide) ?_
  refine Z.newI (N := 20) (kc' := 9) (ks' := 1100) 25 ok q121 (by decide) (by decide) (by decide) (by omega) (by omega) dX2_init_23 (fun q5 hq5n hq5A => ?_)
  have hmq := hM.keep (e := mArr g 5 (fun _ => 0)) (t := 25) hq5n
  refine Z.putF (ci := 1) (C := RX2) (T := TX2) (N := 15) (ty0 := tyX2) ok (by first | assumption | exact ws_s | (rw [ws_n (by assumption)]; assumption)) (by decide) rfl in_X2 tyX2_ok nmX2 5 (by decide) q1458 (Or.inl rfl) rfl hN rfl (okV_a (by first | exact isRf.r _ | exact isRf.n | exact isRf.v _ | assumption)) (by rfl) dX2_init_25 ?_
  obtain ⟨hM, hF1⟩ := hM.step hq5n
  generalize hw3 : wset (wset w2 q5 (mArr g 5 (fun _ => 0)) (20 + 5)) m _ 2 = w3 at hM hF1
  refine Z.cw (w' := w3) hw3.symm ?_
  have hF0 := hF0.tr hF1
  have hm := hM.1
  refine Z.aload_n ok dX2_init_28 rfl (by first | exact isRf.r _ | exact isRf.n | exact isRf.v _ | assumption) ?_
  refine Z.bipush (v := 20) ok dX2_init_29 (by decide) ?_
  refine Z.newI (N := 20) (kc' := 8) (ks' := 1080) 26 ok q121 (by decide) (by decide) (by decide) (by omega) (by omega) dX2_init_31 (fun q6 hq6n hq6A => ?_)
  have hmq := hM.keep (e := mArr g 6 (fun _ => 0)) (t := 26) hq6n
  refine Z.putF (ci := 1) (C := RX2) (T := TX2) (N := 15) (ty0 := tyX2) ok (by first | assumption | exact ws_s | (rw [ws_n (by assumption)]; assumption)) (by decide) rfl in_X2 tyX2_ok nmX2 6 (by decide) q1459 (Or.inl rfl) rfl hN rfl (okV_a (by first | exact isRf.r _ | exact isRf.n | exact isRf.v _ | assumption)) (by rfl) dX2_init_33 ?_
  obtain ⟨hM, hF1⟩ := hM.step hq6n
  generalize hw4 : wset (wset w3 q6 (mArr g 6 (fun _ => 0)) (20 + 6)) m _ 2 = w4 at hM hF1
  refine Z.cw (w' := w4) hw4.symm ?_
  have hF0 := hF0.tr hF1
  have hm := hM.1
  refine Z.aload_n ok dX2_init_36 rfl (by first | exact isRf.r _ | exact isRf.n | exact isRf.v _ | assumption) ?_
  refine Z.bipush (v := 20) ok dX2_init_37 (by decide) ?_
  refine Z.newI (N := 20) (kc' := 7) (ks' := 1060) 27 ok q121 (by decide) (by decide) (by decide) (by omega) (by omega) dX2_init_39 (fun q7 hq7n hq7A => ?_)
  have hmq := hM.keep (e := mArr g 7 (fun _ => 0)) (t := 27) hq7n
  refine Z.putF (ci := 1) (C := RX2) (T := TX2) (N := 15) (ty0 := tyX2) ok (by first | assumption | exact ws_s | (rw [ws_n (by assumption)]; assumption)) (by decide) rfl in_X2 tyX2_ok nmX2 7 (by decide) q1460 (Or.inl rfl) rfl hN rfl (okV_a (by first | exact isRf.r _ | exact isRf.n | exact isRf.v _ | assumption)) (by rfl) dX2_init_41 ?_
  obtain ⟨hM, hF1⟩ := hM.step hq7n
  generalize hw5 : wset (wset w4 q7 (mArr g 7 (fun _ => 0)) (20 + 7)) m _ 2 = w5 at hM hF1
  refine Z.cw (w' := w5) hw5.symm ?_
  have hF0 := hF0.tr hF1
  have hm := hM.1
  refine Z.aload_n ok dX2_init_44 rfl (by first | exact isRf.r _ | exact isRf.n | exact isRf.v _ | assumption) ?_
  refine Z.bipush (v := 20) ok dX2_init_45 (by decide) ?_
  refine Z.newI (N := 20) (kc' := 6) (ks' := 1040) 28 ok q121 (by decide) (by decide) (by decide) (by omega) (by omega) dX2_init_47 (fun q8 hq8n hq8A => ?_)
  have hmq := hM.keep (e := mArr g 8 (fun _ => 0)) (t := 28) hq8n
  refine Z.putF (ci := 1) (C := RX2) (T := TX2) (N := 15) (ty0 := tyX2) ok (by first | assumption | exact ws_s | (rw [ws_n (by assumption)]; assumption)) (by decide) rfl in_X2 tyX2_ok nmX2 8 (by decide) q1461 (Or.inl rfl) rfl hN rfl (okV_a (by first | exact isRf.r _ | exact isRf.n | exact isRf.v _ | assumption)) (by rfl) dX2_init_49 ?_
  obtain ⟨hM, hF1⟩ := hM.step hq8n
  generalize hw6 : wset (wset w5 q8 (mArr g 8 (fun _ => 0)) (20 + 8)) m _ 2 = w6 at hM hF1
  refine Z.cw (w' := w6) hw6.symm ?_
  have hF0 := hF0.tr hF1
  have hm := hM.1
  refine Z.aload_n ok dX2_init_52 rfl (by first | exact isRf.r _ | exact isRf.n | exact isRf.v _ | assumption) ?_
  refine Z.bipush (v := 20) ok dX2_init_53 (by decide) ?_
  refine Z.newI (N := 20) (kc' := 5) (ks' := 1020) 29 ok q121 (by decide) (by decide) (by decide) (by omega) (by omega) dX2_init_55 (fun q9 hq9n hq9A => ?_)
  have hmq := hM.keep (e := mArr g 9 (fun _ => 0)) (t := 29) hq9n
  refine Z.putF (ci := 1) (C := RX2) (T := TX2) (N := 15) (ty0 := tyX2) ok (by first | assumption | exact ws_s | (rw [ws_n (by assumption)]; assumption)) (by decide) rfl in_X2 tyX2_ok nmX2 9 (by decide) q1462 (Or.inl rfl) rfl hN rfl (okV_a (by first | exact isRf.r _ | exact isRf.n | exact isRf.v _ | assumption)) (by rfl) dX2_init_57 ?_
  obtain ⟨hM, hF1⟩ := hM.step hq9n
  generalize hw7 : wset (wset w6 q9 (mArr g 9 (fun _ => 0)) (20 + 9)) m _ 2 = w7 at hM hF1
  refine Z.cw (w' := w7) hw7.symm ?_
  have hF0 := hF0.tr hF1
  have hm := hM.1
  refine Z.aload_n ok dX2_init_60 rfl (by first | exact isRf.r _ | exact isRf.n | exact isRf.v _ | assumption) ?_
  refine Z.bipush (v := 60) ok dX2_init_61 (by decide) ?_
  refine Z.newI (N := 60) (kc' := 4) (ks' := 960) 30 ok q121 (by decide) (by decide) (by decide) (by omega) (by omega) dX2_init_63 (fun q10 hq10n hq10A => ?_)
  have hmq := hM.keep (e := mArr g 10 (fun _ => 0)) (t := 30) hq10n
  refine Z.putF (ci := 1) (C := RX2) (T := TX2) (N := 15) (ty0 := tyX2) ok (by first | assumption | exact ws_s | (rw [ws_n (by assumption)]; assumption)) (by decide) rfl in_X2 tyX2_ok nmX2 10 (by decide) q1463 (Or.inl rfl) rfl hN rfl (okV_a (by first | exact isRf.r _ | exact isRf.n | exact isRf.v _ | assumption)) (by rfl) dX2_init_65 ?_
  obtain ⟨hM, hF1⟩ := hM.step hq10n
  generalize hw8 : wset (wset w7 q10 (mArr g 10 (fun _ => 0)) (20 + 10)) m _ 2 = w8 at hM hF1
  refine Z.cw (w' := w8) hw8.symm ?_
  have hF0 := hF0.tr hF1
  have hm := hM.1
  refine Z.aload_n ok dX2_init_68 rfl (by first | exact isRf.r _ | exact isRf.n | exact isRf.v _ | assumption) ?_
  refine Z.sipush (v := 240) ok dX2_init_69 (by decide) ?_
  refine Z.newI (N := 240) (kc' := 3) (ks' := 720) 31 ok q121 (by decide) (by decide) (by decide) (by omega) (by omega) dX2_init_72 (fun q11 hq11n hq11A => ?_)
  have hmq := hM.keep (e := mArr g 11 (fun _ => 0)) (t := 31) hq11n
  refine Z.putF (ci := 1) (C := RX2) (T := TX2) (N := 15) (ty0 := tyX2) ok (by first | assumption | exact ws_s | (rw [ws_n (by assumption)]; assumption)) (by decide) rfl in_X2 tyX2_ok nmX2 11 (by decide) q1464 (Or.inl rfl) rfl hN rfl (okV_a (by first | exact isRf.r _ | exact isRf.n | exact isRf.v _ | assumption)) (by rfl) dX2_init_74 ?_
  obtain ⟨hM, hF1⟩ := hM.step hq11n
  generalize hw9 : wset (wset w8 q11 (mArr g 11 (fun _ => 0)) (20 + 11)) m _ 2 = w9 at hM hF1
  refine Z.cw (w' := w9) hw9.symm ?_
  have hF0 := hF0.tr hF1
  have hm := hM.1
  refine Z.aload_n ok dX2_init_77 rfl (by first | exact isRf.r _ | exact isRf.n | exact isRf.v _ | assumption) ?_
  refine Z.sipush (v := 240) ok dX2_init_78 (by decide) ?_
  refine Z.newI (N := 240) (kc' := 2) (ks' := 480) 32 ok q121 (by decide) (by decide) (by decide) (by omega) (by omega) dX2_init_81 (fun q12 hq12n hq12A => ?_)
  have hmq := hM.keep (e := mArr g 12 (fun _ => 0)) (t := 32) hq12n
  refine Z.putF (ci := 1) (C := RX2) (T := TX2) (N := 15) (ty0 := tyX2) ok (by first | assumption | exact ws_s | (rw [ws_n (by assumption)]; assumption)) (by decide) rfl in_X2 tyX2_ok nmX2 12 (by decide) q1465 (Or.inl rfl) rfl hN rfl (okV_a (by first | exact isRf.r _ | exact isRf.n | exact isRf.v _ | assumption)) (by rfl) dX2_init_83 ?_
  obtain ⟨hM, hF1⟩ := hM.step hq12n
  generalize hw10 : wset (wset w9 q12 (mArr g 12 (fun _ => 0)) (20 + 12)) m _ 2 = w10 at hM hF1
  refine Z.cw (w' := w10) hw10.symm ?_
  have hF0 := hF0.tr hF1
  have hm := hM.1
  refine Z.aload_n ok dX2_init_86 rfl (by first | exact isRf.r _ | exact isRf.n | exact isRf.v _ | assumption) ?_
  refine Z.sipush (v := 240) ok dX2_init_87 (by decide) ?_
  refine Z.newI (N := 240) (kc' := 1) (ks' := 240) 33 ok q121 (by decide) (by decide) (by decide) (by omega) (by omega) dX2_init_90 (fun q13 hq13n hq13A => ?_)
  have hmq := hM.keep (e := mArr g 13 (fun _ => 0)) (t := 33) hq13n
  refine Z.putF (ci := 1) (C := RX2) (T := TX2) (N := 15) (ty0 := tyX2) ok (by first | assumption | exact ws_s | (rw [ws_n (by assumption)]; assumption)) (by decide) rfl in_X2 tyX2_ok nmX2 13 (by decide) q1466 (Or.inl rfl) rfl hN rfl (okV_a (by first | exact isRf.r _ | exact isRf.n | exact isRf.v _ | assumption)) (by rfl) dX2_init_92 ?_
  obtain ⟨hM, hF1⟩ := hM.step hq13n
  generalize hw11 : wset (wset w10 q13 (mArr g 13 (fun _ => 0)) (20 + 13)) m _ 2 = w11 at hM hF1
  refine Z.cw (w' := w11) hw11.symm ?_
  have hF0 := hF0.tr hF1
  have hm := hM.1
  refine Z.aload_n ok dX2_init_95 rfl (by first | exact isRf.r _ | exact isRf.n | exact isRf.v _ | assumption) ?_
  refine Z.sipush (v := 240) ok dX2_init_96 (by decide) ?_
  refine Z.newZ (N := 240) (kc' := 0) (ks' := 0) 34 ok q1499 (by decide) (by decide) (by decide) (by omega) (by omega) dX2_init_99 (fun q14 hq14n hq14A => ?_)
  have hmq := hM.keep (e := mArr g 14 (fun _ => 0)) (t := 34) hq14n
  refine Z.putF (ci := 1) (C := RX2) (T := TX2) (N := 15) (ty0 := tyX2) ok (by first | assumption | exact ws_s | (rw [ws_n (by assumption)]; assumption)) (by decide) rfl in_X2 tyX2_ok nmX2 14 (by decide) q1467 (Or.inl rfl) rfl hN rfl (okV_a (by first | exact isRf.r _ | exact isRf.n | exact isRf.v _ | assumption)) (by rfl) dX2_init_101 ?_
  obtain ⟨hM, hF1⟩ := hM.step hq14n
  generalize hw12 : wset (wset w11 q14 (mArr g 14 (fun _ => 0)) (20 + 14)) m _ 2 = w12 at hM hF1
  refine Z.cw (w' := w12) hw12.symm ?_
  have hF0 := hF0.tr hF1
  refine Z.iconst_0 ok dX2_init_104 ?_
  refine Z.istore_n (i := 1) ok dX2_init_105 rfl (by decide) ?_
  obtain ⟨ad, hA⟩ := MRp.fin hM rfl
  refine initM_lp (w0 := w) (ad := ad) ok ?_ 6 0 (by omega) w12 hA hF0
  intro w13 hM13 hF13
  refine Z.vret ok hQ rfl dX2_init_125 ?_
  exact ⟨rfl, hF13, _, hM13⟩
end MODEL7
