/-! ===== THE REFERENCE: AlertIndexModel ===== -/
/-- fewer locals -/
def fgt : List (Option Value) → List (Option Value) → Prop
  | [], [] => True
  | none :: r, _ :: r' => fgt r r'
  | some a :: r, b :: r' => b = some a ∧ fgt r r'
  | _, _ => False
theorem fgt_len : ∀ (L' L : List (Option Value)), fgt L' L → L'.length = L.length
  | [], [], _ => rfl
  | none :: r, _ :: r', h => by simp [fgt_len r r' h]
  | some a :: r, b :: r', h => by simp [fgt_len r r' h.2]
  | [], _ :: _, h => h.elim
  | none :: _, [], h => h.elim
  | some _ :: _, [], h => h.elim
theorem fgt_at : ∀ (L' L : List (Option Value)), fgt L' L → ∀ (i : Nat) (v : Value), L'[i]? = some (some v) → L[i]? = some (some v)
  | [], [], _, i, v, h => by simp at h
  | none :: r, _ :: r', h, i, v, hi => by
    cases i with
    | zero => simp at hi
    | succ i => simpa using fgt_at r r' h i v (by simpa using hi)
  | some a :: r, b :: r', h, i, v, hi => by
    cases i with
    | zero => simp at hi; simp [h.1, hi]
    | succ i => simpa using fgt_at r r' h.2 i v (by simpa using hi)
  | [], _ :: _, h, _, _, _ => h.elim
  | none :: _, [], h, _, _, _ => h.elim
  | some _ :: _, [], h, _, _, _ => h.elim
theorem Z.fg {g : Gx} {x : Cx} {nL pc : Nat} {L L' : List (Option Value)} {st : List Value} {w : Wd} {kc ks : Nat} (h : fgt L' L) (kk : Z g x nL pc L' st w kc ks) : Z g x nL pc L st w kc ks := by
  obtain ⟨p, e, R, s, m, args, below, meth, c, Q⟩ := x
  intro H locs ls cells slots h1 h2 hG hS hP
  exact kk H locs ls cells slots h1 h2 hG hS (hP.less ((fgt_len L' L h).trans hP.2.1) (fgt_at L' L h))
theorem m3 (i : Nat) : (3 : Int32) * nI i = nI (3 * i) := pk_mul 3 i
theorem m4 (i : Nat) : (4 : Int32) * nI i = nI (4 * i) := pk_mul 4 i
theorem i1 (i : Nat) : nI i + Int32.ofInt 1 = nI (i + 1) := nI_1 i
section IDX
variable {g : Gx} {x : Cx} {own : String} {cc : ByteArray} {nL lv : Nat} {ret : Option FieldType} {pc : Nat} {L : List (Option Value)} {st : List Value} {w : Wd} {kc ks : Nat} {a t n j : Nat}
/-- array places by their numbers -/
theorem Z.ialdN {f : Nat → Int32} (ok : OK g x own cc nL lv ret) (hw : w a = some (eI g n f, t)) (hj : j < n) (hn : n < 2 ^ 31) (hd : decode cc pc = .ok (.iaload, 1)) (kk : Z g x nL (pc + 1) L (.int (f j) :: st) w kc ks) : Z g x nL pc L (.int (nI j) :: .ref a :: st) w kc ks := by
  refine Z.iald ok hw (vp_in_nI hj hn) hd ?_
  rw [nI_clamp (by omega)]
  exact kk
theorem Z.zaldN {f : Nat → Int32} (ok : OK g x own cc nL lv ret) (hw : w a = some (eZ g n f, t)) (hj : j < n) (hn : n < 2 ^ 31) (hd : decode cc pc = .ok (.baload, 1)) (kk : Z g x nL (pc + 1) L (.int (f j) :: st) w kc ks) : Z g x nL pc L (.int (nI j) :: .ref a :: st) w kc ks := by
  refine Z.zald ok hw (vp_in_nI hj hn) hd ?_
  rw [nI_clamp (by omega)]
  exact kk
theorem Z.iastN {f : Nat → Int32} {v : Int32} (ok : OK g x own cc nL lv ret) (hw : w a = some (eI g n f, t)) (ht : t ≠ 0) (hj : j < n) (hn : n < 2 ^ 31) (hd : decode cc pc = .ok (.iastore, 1)) (kk : Z g x nL (pc + 1) L st (wset w a (eI g n (upd f j v)) t) kc ks) : Z g x nL pc L (.int v :: .int (nI j) :: .ref a :: st) w kc ks := by
  refine Z.iast ok hw ht (vp_in_nI hj hn) hd ?_
  rw [nI_clamp (by omega)]
  exact kk
theorem Z.zastN {f : Nat → Int32} {v : Int32} (ok : OK g x own cc nL lv ret) (hw : w a = some (eZ g n f, t)) (ht : t ≠ 0) (hv : v = 0 ∨ v = 1) (hj : j < n) (hn : n < 2 ^ 31) (hd : decode cc pc = .ok (.bastore, 1)) (kk : Z g x nL (pc + 1) L st (wset w a (eZ g n (upd f j v)) t) kc ks) : Z g x nL pc L (.int v :: .int (nI j) :: .ref a :: st) w kc ks := by
  refine Z.zast ok hw ht (vp_in_nI hj hn) hd ?_
  rw [nI_clamp (by omega), show vp_nar .boolean v = v by rcases hv with rfl | rfl <;> rfl]
  exact kk
end IDX
def mLen (k : Nat) : Nat := if k = 3 then 6 else if k < 10 then 20 else if k = 10 then 60 else 240
def mArr (g : Gx) (k : Nat) (f : Nat → Int32) : va_E := if k = 4 ∨ k = 14 then eZ g (mLen k) f else eI g (mLen k) f
def mFs (th : Int32) (S : St) (ad : Nat → Nat) : List Value := [.int th, .int (S 1 0), .int (S 2 0), .ref (ad 3), .ref (ad 4), .ref (ad 5), .ref (ad 6), .ref (ad 7), .ref (ad 8), .ref (ad 9), .ref (ad 10), .ref (ad 11), .ref (ad 12), .ref (ad 13), .ref (ad 14)]
/-- the reference m holds the state S (its arrays at ad), its 'thrown' is th -/
def MR (g : Gx) (w : Wd) (m : Nat) (ad : Nat → Nat) (S : St) (th : Int32) : Prop := w m = some (ob 1 (mFs th S ad), 2) ∧ ∀ k, 3 ≤ k → k ≤ 14 → w (ad k) = some (mArr g k (S k), 20 + k)
def isM (t : Nat) : Prop := t = 2 ∨ 23 ≤ t ∧ t ≤ 34
def FrM (w w' : Wd) : Prop := ∀ a e t, w a = some (e, t) → ¬ isM t → w' a = some (e, t)
theorem FrM.rf {w : Wd} : FrM w w := fun _ _ _ h _ => h
theorem FrM.tr {w w1 w2 : Wd} (h : FrM w w1) (h2 : FrM w1 w2) : FrM w w2 := fun a e t ha ht => h2 a e t (h a e t ha ht) ht
theorem FrM.st {w : Wd} {a t0 : Nat} {e0 e1 : va_E} (h : w a = some (e0, t0)) (ht : isM t0) (t1 : Nat) : FrM w (wset w a e1 t1) := by
  intro b e t hb hbt
  have hne : b ≠ a := fun q => by
    rw [q, h] at hb
    cases hb
    exact hbt ht
  rw [ws_n hne]
  exact hb
section MODEL
variable {g : Gx} {w : Wd} {m : Nat} {ad : Nat → Nat} {S : St} {th : Int32}
theorem MR.o (h : MR g w m ad S th) : w m = some (ob 1 (mFs th S ad), 2) := h.1
theorem MR.a3 (h : MR g w m ad S th) : w (ad 3) = some (eI g 6 (S 3), 23) := h.2 3 (by decide) (by decide)
theorem MR.a4 (h : MR g w m ad S th) : w (ad 4) = some (eZ g 20 (S 4), 24) := h.2 4 (by decide) (by decide)
theorem MR.a5 (h : MR g w m ad S th) : w (ad 5) = some (eI g 20 (S 5), 25) := h.2 5 (by decide) (by decide)
theorem MR.a6 (h : MR g w m ad S th) : w (ad 6) = some (eI g 20 (S 6), 26) := h.2 6 (by decide) (by decide)
theorem MR.a7 (h : MR g w m ad S th) : w (ad 7) = some (eI g 20 (S 7), 27) := h.2 7 (by decide) (by decide)
theorem MR.a8 (h : MR g w m ad S th) : w (ad 8) = some (eI g 20 (S 8), 28) := h.2 8 (by decide) (by decide)
theorem MR.a9 (h : MR g w m ad S th) : w (ad 9) = some (eI g 20 (S 9), 29) := h.2 9 (by decide) (by decide)
theorem MR.a10 (h : MR g w m ad S th) : w (ad 10) = some (eI g 60 (S 10), 30) := h.2 10 (by decide) (by decide)
theorem MR.a11 (h : MR g w m ad S th) : w (ad 11) = some (eI g 240 (S 11), 31) := h.2 11 (by decide) (by decide)
theorem MR.a12 (h : MR g w m ad S th) : w (ad 12) = some (eI g 240 (S 12), 32) := h.2 12 (by decide) (by decide)
theorem MR.a13 (h : MR g w m ad S th) : w (ad 13) = some (eI g 240 (S 13), 33) := h.2 13 (by decide) (by decide)
theorem MR.a14 (h : MR g w m ad S th) : w (ad 14) = some (eZ g 240 (S 14), 34) := h.2 14 (by decide) (by decide)
theorem MR.st (h : MR g w m ad S th) (k j : Nat) (v : Int32) (h3 : 3 ≤ k) (h14 : k ≤ 14) : MR g (wset w (ad k) (mArr g k (upd (S k) j v)) (20 + k)) m ad (up2 S k j v) th ∧ FrM w (wset w (ad k) (mArr g k (upd (S k) j v)) (20 + k)) := by
  have hk := h.2 k h3 h14
  have hmk : m ≠ ad k := fun e => by
    have h1 := h.1
    rw [e, hk] at h1
    have := congrArg (fun o : Option (va_E × Nat) => o.map (·.2)) h1
    simp at this
    omega
  refine ⟨⟨?_, fun i i3 i14 => ?_⟩, FrM.st hk (Or.inr ⟨by omega, by omega⟩) _⟩
  · rw [ws_n hmk, h.1]
    have e1 : up2 S k j v 1 = S 1 := up2_rowk (by omega)
    have e2 : up2 S k j v 2 = S 2 := up2_rowk (by omega)
    simp only [mFs, e1, e2]
  · by_cases hik : i = k
    · subst hik
      rw [ws_s, up2_row]
    · have hne : ad i ≠ ad k := fun e => by
        have h1 := h.2 i i3 i14
        rw [e, hk] at h1
        have := congrArg (fun o : Option (va_E × Nat) => o.map (·.2)) h1
        simp at this
        omega
      rw [ws_n hne, up2_rowk hik]
      exact h.2 i i3 i14
theorem MR.pob (h : MR g w m ad S th) {th' : Int32} {S' : St} {fs : List Value} (hf : fs = mFs th' S' ad) (hS : ∀ k, 3 ≤ k → S' k = S k) : MR g (wset w m (ob 1 fs) 2) m ad S' th' ∧ FrM w (wset w m (ob 1 fs) 2) := by
  refine ⟨⟨by rw [ws_s, hf], fun i i3 i14 => ?_⟩, FrM.st h.1 (Or.inl rfl) _⟩
  have hne : ad i ≠ m := fun e => by
    have h1 := h.2 i i3 i14
    rw [e, h.1] at h1
    have := congrArg (fun o : Option (va_E × Nat) => o.map (·.2)) h1
    simp at this
    omega
  rw [ws_n hne, hS i i3]
  exact h.2 i i3 i14
theorem MR.pth (h : MR g w m ad S th) (v : Int32) : MR g (wset w m (ob 1 ((mFs th S ad).set 0 (.int v))) 2) m ad S v ∧ FrM w (wset w m (ob 1 ((mFs th S ad).set 0 (.int v))) 2) := h.pob rfl (fun _ _ => rfl)
theorem MR.pmin (h : MR g w m ad S th) (v : Int32) : MR g (wset w m (ob 1 ((mFs th S ad).set 1 (.int v))) 2) m ad (up2 S 1 0 v) th ∧ FrM w (wset w m (ob 1 ((mFs th S ad).set 1 (.int v))) 2) := h.pob rfl (fun k hk => up2_rowk (by omega))
theorem MR.pq (h : MR g w m ad S th) (v : Int32) : MR g (wset w m (ob 1 ((mFs th S ad).set 2 (.int v))) 2) m ad (up2 S 2 0 v) th ∧ FrM w (wset w m (ob 1 ((mFs th S ad).set 2 (.int v))) 2) := h.pob rfl (fun k hk => up2_rowk (by omega))
/-- what a method of the reference leaves -/
def PM (g : Gx) (w : Wd) (m : Nat) (ad : Nat → Nat) (r : Option Value) (S' : St) (th' : Int32) : Option Value → Wd → Prop := fun v w' => v = r ∧ MR g w' m ad S' th' ∧ FrM w w'
abbrev rI (r : Int32) : Option Value := some (.int r)
theorem le_dec {a b : Int32} : ¬ a ≤ b ↔ b < a := by
  rw [Int32.le_iff_toInt_le, Int32.lt_iff_toInt_lt]; omega
theorem lt_dec {a b : Int32} : ¬ a < b ↔ b ≤ a := by
  rw [Int32.le_iff_toInt_le, Int32.lt_iff_toInt_lt]; omega
theorem thrown_ct (hM : MR g w m ad S th) : Ct g yX2_thrown cX2_thrown 1 (some .int) 1 0 0 [.ref m] w (PM g w m ad (rI th) S th) noX := by
  refine Ct.of RX2 "thrown" ⟨rfl, rfl⟩ (by decide +kernel) (by simp [Value.category]) (Nat.le_of_ble_eq_true rfl) (fun x ok hQ hN => ?_)
  show Z g x 1 0 [some (.ref m)] [] w 0 0
  have hm := hM.o
  refine Z.aload_n ok dX2_thrown_0 rfl (by first | exact isRf.r _ | exact isRf.n | exact isRf.v _ | assumption) ?_
  refine Z.get (ci := 1) (C := RX2) (T := TX2) (N := 15) ok (by first | assumption | exact ws_s | (rw [ws_n (by assumption)]; assumption)) rfl in_X2 0 (by decide) q1453 (Or.inl rfl) (by rfl) dX2_thrown_1 ?_
  refine Z.iret ok hQ rfl dX2_thrown_4 ?_
  exact ⟨rfl, hM, FrM.rf⟩
theorem holds_ct (hM : MR g w m ad S th) (p : Int32) : Ct g yX2_holds cX2_holds 2 (some .boolean) 1 0 0 [.ref m, .int p] w (PM g w m ad (rI (bI (decide (p = 0)))) S p) noX := by
  refine Ct.of RX2 "holds" ⟨rfl, rfl⟩ (by decide +kernel) (by simp [Value.category]) (Nat.le_of_ble_eq_true rfl) (fun x ok hQ hN => ?_)
  show Z g x 2 0 [some (.ref m), some (.int p)] [] w 0 0
  have hm := hM.o
  refine Z.aload_n ok dX2_holds_0 rfl (by first | exact isRf.r _ | exact isRf.n | exact isRf.v _ | assumption) ?_
  refine Z.iload_n ok dX2_holds_1 rfl ?_
  refine Z.put (ci := 1) (C := RX2) (T := TX2) (N := 15) (ty0 := tyX2) ok (by first | assumption | exact ws_s | (rw [ws_n (by assumption)]; assumption)) (by first | decide | assumption) rfl in_X2 tyX2_ok nmX2 0 (by decide) q1453 (Or.inl rfl) rfl (okV_i _) (by rfl) dX2_holds_2 ?_
  obtain ⟨hM1, hF1⟩ := hM.pth p
  generalize wset w m (ob 1 ((mFs th S ad).set 0 (.int p))) 2 = w1 at hM1 hF1 ⊢
  refine Z.iload_n ok dX2_holds_5 rfl ?_
  refine Z.if_ne (tgt := 13) ok dX2_holds_6 (by decide) (fun hc => ?_) (fun hc => ?_)
  · refine Z.iconst_0 ok dX2_holds_13 ?_
    refine Z.iret ok hQ rfl dX2_holds_14 ?_
    exact ⟨by rw [decide_eq_false hc]; rfl, hM1, hF1⟩
  · refine Z.iconst_1 ok dX2_holds_9 ?_
    refine Z.goto (tgt := 14) ok dX2_holds_10 (by decide) ?_
    refine Z.iret ok hQ rfl dX2_holds_14 ?_
    exact ⟨by rw [decide_eq_true hc]; rfl, hM1, hF1⟩
/-- isIn, of any class: its code is the same -/
def inB (v lo hi : Int32) : Bool := decide (lo ≤ v) && decide (v ≤ hi)
def PW (r : Option Value) (w : Wd) : Option Value → Wd → Prop := fun v w' => v = r ∧ w = w'
theorem isInM_ct (v lo hi : Int32) : Ct g yX2_isIn cX2_isIn 3 (some .boolean) 1 0 0 [.int v, .int lo, .int hi] w (PW (rI (bI (inB v lo hi))) w) noX := by
  refine Ct.of RX2 "isIn" ⟨rfl, rfl⟩ (by decide +kernel) (by simp [Value.category]) (Nat.le_of_ble_eq_true rfl) (fun x ok hQ hN => ?_)
  show Z g x 3 0 [some (.int v), some (.int lo), some (.int hi)] [] w 0 0
  refine Z.iload_n ok dX2_isIn_0 rfl ?_
  refine Z.iload_n ok dX2_isIn_1 rfl ?_
  refine Z.icmp_lt (tgt := 14) ok dX2_isIn_2 (by decide) (fun hc => ?_) (fun hc => ?_)
  · refine Z.iconst_0 ok dX2_isIn_14 ?_
    refine Z.iret ok hQ rfl dX2_isIn_15 ?_
    exact ⟨by rw [inB, decide_eq_false (le_dec.mpr hc)]; rfl, rfl⟩
  · refine Z.iload_n ok dX2_isIn_5 rfl ?_
    refine Z.iload_n ok dX2_isIn_6 rfl ?_
    refine Z.icmp_gt (tgt := 14) ok dX2_isIn_7 (by decide) (fun hd => ?_) (fun hd => ?_)
    · refine Z.iconst_0 ok dX2_isIn_14 ?_
      refine Z.iret ok hQ rfl dX2_isIn_15 ?_
      exact ⟨by rw [inB, decide_eq_false (le_dec.mpr hd), Bool.and_false]; rfl, rfl⟩
    · refine Z.iconst_1 ok dX2_isIn_10 ?_
      refine Z.goto (tgt := 15) ok dX2_isIn_11 (by decide) ?_
      refine Z.iret ok hQ rfl dX2_isIn_15 ?_
      exact ⟨by rw [inB, decide_eq_true (lt_dec.mp hc), decide_eq_true (lt_dec.mp hd)]; rfl, rfl⟩

theorem inB_t {v lo hi : Int32} : inB v lo hi = true ↔ lo ≤ v ∧ v ≤ hi := by simp [inB]
theorem isName_ct (v : Int32) : Ct g yX2_isName cX2_isName 1 (some .boolean) 2 0 0 [.int v] w (PW (rI (bI (inB v 0 5))) w) noX := by
  refine Ct.of RX2 "isName" ⟨rfl, rfl⟩ (by decide +kernel) (by simp [Value.category]) (Nat.le_of_ble_eq_true rfl) (fun x ok hQ hN => ?_)
  show Z g x 1 0 [some (.int v)] [] w 0 0
  refine Z.iload_n ok dX2_isName_0 rfl ?_
  refine Z.iconst_0 ok dX2_isName_1 ?_
  refine Z.iconst_5 ok dX2_isName_2 ?_
  refine Z.callS ok (isInM_ct v 0 5) q1520 q1521 q22 q1522 nk_X2_isIn rfl (by decide) (by decide) (Nat.le_refl _) (Nat.le_refl _) dX2_isName_3 rfl ZX.no (fun v w1 hp => ?_)
  obtain ⟨rfl, rfl⟩ := hp
  refine Z.iret ok hQ (bI_nar _) dX2_isName_6 ?_
  exact ⟨rfl, rfl⟩
def rngB (lo hi : Int32) : Bool := inB lo 0 63 && inB hi lo 63
theorem isRange_ct (lo hi : Int32) : Ct g yX2_isRange cX2_isRange 2 (some .boolean) 2 0 0 [.int lo, .int hi] w (PW (rI (bI (rngB lo hi))) w) noX := by
  refine Ct.of RX2 "isRange" ⟨rfl, rfl⟩ (by decide +kernel) (by simp [Value.category]) (Nat.le_of_ble_eq_true rfl) (fun x ok hQ hN => ?_)
  show Z g x 2 0 [some (.int lo), some (.int hi)] [] w 0 0
  refine Z.iload_n ok dX2_isRange_0 rfl ?_
  refine Z.iconst_0 ok dX2_isRange_1 ?_
  refine Z.bipush (v := 63) ok dX2_isRange_2 (by decide) ?_
  refine Z.callS ok (isInM_ct lo 0 63) q1520 q1521 q22 q1522 nk_X2_isIn rfl (by decide) (by decide) (Nat.le_refl _) (Nat.le_refl _) dX2_isRange_4 rfl ZX.no (fun v w1 hp => ?_)
  obtain ⟨rfl, rfl⟩ := hp
  refine Z.if_eq (tgt := 24) ok dX2_isRange_7 (by decide) (fun hc => ?_) (fun hc => ?_)
  · refine Z.iconst_0 ok dX2_isRange_24 ?_
    refine Z.iret ok hQ rfl dX2_isRange_25 ?_
    exact ⟨by rw [rngB, bI_0.mp hc]; rfl, rfl⟩
  · refine Z.iload_n ok dX2_isRange_10 rfl ?_
    refine Z.iload_n ok dX2_isRange_11 rfl ?_
    refine Z.bipush (v := 63) ok dX2_isRange_12 (by decide) ?_
    refine Z.callS ok (isInM_ct hi lo 63) q1520 q1521 q22 q1522 nk_X2_isIn rfl (by decide) (by decide) (Nat.le_refl _) (Nat.le_refl _) dX2_isRange_14 rfl ZX.no (fun v w1 hp => ?_)
    obtain ⟨rfl, rfl⟩ := hp
    refine Z.if_eq (tgt := 24) ok dX2_isRange_17 (by decide) (fun hd => ?_) (fun hd => ?_)
    · refine Z.iconst_0 ok dX2_isRange_24 ?_
      refine Z.iret ok hQ rfl dX2_isRange_25 ?_
      exact ⟨by rw [rngB, bI_0.mp hd, Bool.and_false]; rfl, rfl⟩
    · refine Z.iconst_1 ok dX2_isRange_20 ?_
      refine Z.goto (tgt := 25) ok dX2_isRange_21 (by decide) ?_
      refine Z.iret ok hQ rfl dX2_isRange_25 ?_
      exact ⟨by rw [rngB, bI_n0.mp hd, bI_n0.mp hc]; rfl, rfl⟩
theorem isQuestion_ct (hM : MR g w m ad S th) (hI : InvA S) (q : Int32) : Ct g yX2_isQuestion cX2_isQuestion 2 (some .boolean) 2 0 0 [.ref m, .int q] w (PW (rI (bI (isQ S q))) w) noX := by
  refine Ct.of RX2 "isQuestion" ⟨rfl, rfl⟩ (by decide +kernel) (by simp [Value.category]) (Nat.le_of_ble_eq_true rfl) (fun x ok hQ hN => ?_)
  show Z g x 2 0 [some (.ref m), some (.int q)] [] w 0 0
  have hm := hM.o
  have h4 := hM.a4
  have hd0 : isQ S q = (inB q 0 (S 2 0 - 1) && decide (S 4 q.toNatClampNeg = 0)) := rfl
  refine Z.iload_n ok dX2_isQuestion_0 rfl ?_
  refine Z.iconst_0 ok dX2_isQuestion_1 ?_
  refine Z.aload_n ok dX2_isQuestion_2 rfl (by first | exact isRf.r _ | exact isRf.n | exact isRf.v _ | assumption) ?_
  refine Z.get (ci := 1) (C := RX2) (T := TX2) (N := 15) ok (by first | assumption | exact ws_s | (rw [ws_n (by assumption)]; assumption)) rfl in_X2 2 (by decide) q1455 (Or.inl rfl) (by rfl) dX2_isQuestion_3 ?_
  refine Z.iconst_1 ok dX2_isQuestion_6 ?_
  refine Z.isub ok dX2_isQuestion_7 ?_
  refine Z.callS ok (isInM_ct q 0 (S 2 0 - 1)) q1520 q1521 q22 q1522 nk_X2_isIn rfl (by decide) (by decide) (Nat.le_refl _) (Nat.le_refl _) dX2_isQuestion_8 rfl ZX.no (fun v w1 hp => ?_)
  obtain ⟨rfl, rfl⟩ := hp
  refine Z.if_eq (tgt := 27) ok dX2_isQuestion_11 (by decide) (fun hc => ?_) (fun hc => ?_)
  · refine Z.iconst_0 ok dX2_isQuestion_27 ?_
    refine Z.iret ok hQ rfl dX2_isQuestion_28 ?_
    exact ⟨by rw [hd0, bI_0.mp hc]; rfl, rfl⟩
  · obtain ⟨a, b⟩ := inB_t.mp (bI_n0.mp hc)
    rw [hI.1.1] at b
    have hn := hI.1.2
    obtain ⟨i, hi, rfl⟩ := nI_of_range (by omega) a b
    rw [nI_clamp (by omega)] at hd0
    refine Z.aload_n ok dX2_isQuestion_14 rfl (by first | exact isRf.r _ | exact isRf.n | exact isRf.v _ | assumption) ?_
    refine Z.get (ci := 1) (C := RX2) (T := TX2) (N := 15) ok (by first | assumption | exact ws_s | (rw [ws_n (by assumption)]; assumption)) rfl in_X2 4 (by decide) q1457 (Or.inl rfl) (by rfl) dX2_isQuestion_15 ?_
    refine Z.iload_n ok dX2_isQuestion_18 rfl ?_
    refine Z.zaldN ok h4 (by omega) (by decide) dX2_isQuestion_19 ?_
    refine Z.if_ne (tgt := 27) ok dX2_isQuestion_20 (by decide) (fun hd => ?_) (fun hd => ?_)
    · refine Z.iconst_0 ok dX2_isQuestion_27 ?_
      refine Z.iret ok hQ rfl dX2_isQuestion_28 ?_
      exact ⟨by rw [hd0, decide_eq_false hd, Bool.and_false]; rfl, rfl⟩
    · refine Z.iconst_1 ok dX2_isQuestion_23 ?_
      refine Z.goto (tgt := 28) ok dX2_isQuestion_24 (by decide) ?_
      refine Z.iret ok hQ rfl dX2_isQuestion_28 ?_
      exact ⟨by rw [hd0, decide_eq_true hd, bI_n0.mp hc]; rfl, rfl⟩
theorem isTrueM_ct (hM : MR g w m ad S th) (hI : InvA S) (k : Nat) (hk : k < 240) : Ct g yX2_isTrue cX2_isTrue 4 (some .boolean) 1 0 0 [.ref m, .int (nI k)] w (PW (rI (bI (tstB S k))) w) noX := by
  refine Ct.of RX2 "isTrue" ⟨rfl, rfl⟩ (by decide +kernel) (by simp [Value.category]) (Nat.le_of_ble_eq_true rfl) (fun x ok hQ hN => ?_)
  show Z g x 4 0 [some (.ref m), some (.int (nI k)), none, none] [] w 0 0
  have hm := hM.o
  have h3 := hM.a3
  have h11 := hM.a11
  have h12 := hM.a12
  have h13 := hM.a13
  have h14 := hM.a14
  obtain ⟨hnm, hnm6⟩ := hI.2.2.2.1 k hk
  have h01 := hI.2.2.2.2.2.1 k hk
  refine Z.aload_n ok dX2_isTrue_0 rfl (by first | exact isRf.r _ | exact isRf.n | exact isRf.v _ | assumption) ?_
  refine Z.get (ci := 1) (C := RX2) (T := TX2) (N := 15) ok (by first | assumption | exact ws_s | (rw [ws_n (by assumption)]; assumption)) rfl in_X2 3 (by decide) q1456 (Or.inl rfl) (by rfl) dX2_isTrue_1 ?_
  refine Z.aload_n ok dX2_isTrue_4 rfl (by first | exact isRf.r _ | exact isRf.n | exact isRf.v _ | assumption) ?_
  refine Z.get (ci := 1) (C := RX2) (T := TX2) (N := 15) ok (by first | assumption | exact ws_s | (rw [ws_n (by assumption)]; assumption)) rfl in_X2 11 (by decide) q1464 (Or.inl rfl) (by rfl) dX2_isTrue_5 ?_
  refine Z.iload_n ok dX2_isTrue_8 rfl ?_
  refine Z.ialdN ok h11 hk (by decide) dX2_isTrue_9 ?_
  rw [hnm]
  refine Z.ialdN ok h3 hnm6 (by decide) dX2_isTrue_10 ?_
  refine Z.istore_n (i := 2) ok dX2_isTrue_11 rfl (by decide) ?_
  refine Z.iload_n ok dX2_isTrue_12 rfl ?_
  refine Z.iconst_m1 ok dX2_isTrue_13 ?_
  have key : ∀ b : Bool, b = (decide (S 3 (nmN S k) ≠ -1) && decide (S 12 k ≤ S 3 (nmN S k)) && decide (S 3 (nmN S k) ≤ S 13 k)) → Z g x 4 42 [some (.ref m), some (.int (nI k)), some (.int (S 3 (nmN S k))), none] [.int (bI b)] w 0 0 := by
    intro b hb
    refine Z.istore_n (i := 3) ok dX2_isTrue_42 rfl (by decide) ?_
    refine Z.iload_n ok dX2_isTrue_43 rfl ?_
    refine Z.aload_n ok dX2_isTrue_44 rfl (by first | exact isRf.r _ | exact isRf.n | exact isRf.v _ | assumption) ?_
    refine Z.get (ci := 1) (C := RX2) (T := TX2) (N := 15) ok (by first | assumption | exact ws_s | (rw [ws_n (by assumption)]; assumption)) rfl in_X2 14 (by decide) q1467 (Or.inl rfl) (by rfl) dX2_isTrue_45 ?_
    refine Z.iload_n ok dX2_isTrue_48 rfl ?_
    refine Z.zaldN ok h14 hk (by decide) dX2_isTrue_49 ?_
    refine Z.icmp_eq (tgt := 57) ok dX2_isTrue_50 (by decide) (fun hc => ?_) (fun hc => ?_)
    · refine Z.iconst_0 ok dX2_isTrue_57 ?_
      refine Z.iret ok hQ rfl dX2_isTrue_58 ?_
      refine ⟨?_, rfl⟩
      rw [tstB, ← hb]
      rcases h01 with h | h <;> rw [h] at hc ⊢ <;> cases b <;> first | rfl | exact absurd hc (by decide)
    · refine Z.iconst_1 ok dX2_isTrue_53 ?_
      refine Z.goto (tgt := 58) ok dX2_isTrue_54 (by decide) ?_
      refine Z.iret ok hQ rfl dX2_isTrue_58 ?_
      refine ⟨?_, rfl⟩
      rw [tstB, ← hb]
      rcases h01 with h | h <;> rw [h] at hc ⊢ <;> cases b <;> first | rfl | exact absurd rfl hc
  refine Z.icmp_eq (tgt := 41) ok dX2_isTrue_14 (by decide) (fun hc => ?_) (fun hc => ?_)
  · refine Z.iconst_0 ok dX2_isTrue_41 ?_
    exact key false (by rw [decide_eq_false (fun h => h hc)]; rfl)
  · refine Z.iload_n ok dX2_isTrue_17 rfl ?_
    refine Z.aload_n ok dX2_isTrue_18 rfl (by first | exact isRf.r _ | exact isRf.n | exact isRf.v _ | assumption) ?_
    refine Z.get (ci := 1) (C := RX2) (T := TX2) (N := 15) ok (by first | assumption | exact ws_s | (rw [ws_n (by assumption)]; assumption)) rfl in_X2 12 (by decide) q1465 (Or.inl rfl) (by rfl) dX2_isTrue_19 ?_
    refine Z.iload_n ok dX2_isTrue_22 rfl ?_
    refine Z.ialdN ok h12 hk (by decide) dX2_isTrue_23 ?_
    refine Z.icmp_lt (tgt := 41) ok dX2_isTrue_24 (by decide) (fun hd => ?_) (fun hd => ?_)
    · refine Z.iconst_0 ok dX2_isTrue_41 ?_
      exact key false (by rw [decide_eq_false (le_dec.mpr hd), Bool.and_false]; rfl)
    · refine Z.iload_n ok dX2_isTrue_27 rfl ?_
      refine Z.aload_n ok dX2_isTrue_28 rfl (by first | exact isRf.r _ | exact isRf.n | exact isRf.v _ | assumption) ?_
      refine Z.get (ci := 1) (C := RX2) (T := TX2) (N := 15) ok (by first | assumption | exact ws_s | (rw [ws_n (by assumption)]; assumption)) rfl in_X2 13 (by decide) q1466 (Or.inl rfl) (by rfl) dX2_isTrue_29 ?_
      refine Z.iload_n ok dX2_isTrue_32 rfl ?_
      refine Z.ialdN ok h13 hk (by decide) dX2_isTrue_33 ?_
      refine Z.icmp_gt (tgt := 41) ok dX2_isTrue_34 (by decide) (fun he => ?_) (fun he => ?_)
      · refine Z.iconst_0 ok dX2_isTrue_41 ?_
        exact key false (by rw [decide_eq_false (le_dec.mpr he), Bool.and_false])
      · refine Z.iconst_1 ok dX2_isTrue_37 ?_
        refine Z.goto (tgt := 42) ok dX2_isTrue_38 (by decide) ?_
        exact key true (by rw [decide_eq_true hc, decide_eq_true (lt_dec.mp hd), decide_eq_true (lt_dec.mp he)]; rfl)
end MODEL
