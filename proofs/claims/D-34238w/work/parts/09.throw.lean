/-! ===== THROWS of the machine Z ===== -/
def thrOk (w : Cond) : Bool := goodWord w || (match w with
  | .castable _ _ => true
  | .declares _ => true
  | _ => false)
theorem thrW_ISE : vx_at0 "AlertIndex" 35 "java/lang/IllegalStateException" ["java/lang/RuntimeException", "java/lang/Exception"] = ([23, 497, 506, 511, 514, 516, 498, 499, 61, 62, 500, 505, 512, 537, 487, 538, 489, 539, 491, 501, 503, 493, 1002, 1003, 1004, 1005, 478, 1005, 1006, 1007, 1008, 480, 1008, 1009, 1010, 498, 482, 1001, 993, 994, 995, 509, 996, 997, 998, 999, 496, 495, 1000] : List Nat).filterMap (fun i => lw_tbl[i]?) := by decide +kernel
theorem thrG_ISE : (vx_at0 "AlertIndex" 35 "java/lang/IllegalStateException" ["java/lang/RuntimeException", "java/lang/Exception"]).all thrOk = true := by decide +kernel
theorem thrW_IOB : vx_at0 "AlertIndex" 38 "java/lang/IndexOutOfBoundsException" ["java/lang/RuntimeException", "java/lang/Exception"] = ([23, 497, 506, 511, 514, 516, 498, 499, 61, 62, 500, 505, 512, 537, 487, 538, 489, 539, 491, 501, 503, 493, 1121, 1122, 1123, 1005, 478, 1005, 1006, 1007, 1008, 480, 1008, 1009, 1010, 498, 482, 1120, 1112, 1113, 1114, 510, 1115, 1116, 1117, 1118, 496, 495, 1119] : List Nat).filterMap (fun i => lw_tbl[i]?) := by decide +kernel
theorem thrG_IOB : (vx_at0 "AlertIndex" 38 "java/lang/IndexOutOfBoundsException" ["java/lang/RuntimeException", "java/lang/Exception"]).all thrOk = true := by decide +kernel
theorem thrW_IAE : vx_at0 "AlertIndex" 32 "java/lang/IllegalArgumentException" ["java/lang/RuntimeException", "java/lang/Exception"] = ([23, 497, 506, 511, 514, 516, 498, 499, 61, 62, 500, 505, 512, 537, 487, 538, 489, 539, 491, 501, 503, 493, 1161, 1162, 1163, 1005, 478, 1005, 1006, 1007, 1008, 480, 1008, 1009, 1010, 498, 482, 1160, 476, 477, 484, 485, 486, 488, 490, 492, 496, 495, 494] : List Nat).filterMap (fun i => lw_tbl[i]?) := by decide +kernel
theorem thrG_IAE : (vx_at0 "AlertIndex" 32 "java/lang/IllegalArgumentException" ["java/lang/RuntimeException", "java/lang/Exception"]).all thrOk = true := by decide +kernel
theorem KK.thr {g : Gx} {s : State} {args : Array Value} (hK : KK g s) (hts : ∀ w ∈ lw_all, w.before args s = true) {ws : List Cond} (h1 : ∀ w ∈ ws, w ∈ lw_tbl) (h2 : ws.all thrOk = true) : (∀ w ∈ ws, w.before args s = true) ∧ ∀ w ∈ ws, vx_ot w = true := by
  have key : ∀ w ∈ ws, w.before args s = true ∧ vx_ot w = true := by
    intro w hw
    have h3 := List.all_eq_true.mp h2 w hw
    by_cases hg : goodWord w = true
    · exact ⟨hts _ (lw_g (h1 w hw) hg), by unfold vx_ot; rw [hg, Bool.or_true]⟩
    · have hm := h1 w hw
      unfold thrOk at h3
      cases w <;> first | exact ⟨va_Nw.use rfl (hK.2.2.2.1 _ _ hm), rfl⟩ | exact ⟨va_Nw.use rfl (hK.2.2.2.2.2.2.2.2.1 _ hm), rfl⟩ | (exfalso; simp_all)
  exact ⟨fun w hw => (key w hw).1, fun w hw => (key w hw).2⟩
theorem places_tbl {ws : List Cond} {ps : List Nat} (h : ws = ps.filterMap (fun i => lw_tbl[i]?)) : ∀ w ∈ ws, w ∈ lw_tbl := by
  intro w hw
  rw [h] at hw
  obtain ⟨i, -, hi⟩ := List.mem_filterMap.mp hw
  exact List.mem_of_getElem? hi
theorem Z.throw0 {g : Gx} {x : Cx} {own : String} {cc : ByteArray} {nL lv : Nat} {ret : Option FieldType} {pc : Nat} {L : List (Option Value)} {w : Wd} {kc ks : Nat} {Post : Option Value → Wd → Prop} {PostX : String → Wd → Prop} {cls : String} {names : List String} {ik ic : Nat} (ok : OK g x own cc nL lv ret) (hQ : EndQ g x Post PostX) (hcls : Bundle.fit cls = true) (hnames : ∀ n ∈ names, Bundle.fit n = true) (hk : Cond.classLink own ik cls ∈ lw_all) (hini : Cond.initialized cls ∈ lw_all) (hat : ∀ w ∈ vx_at0 own ic cls names, w ∈ lw_tbl) (hok : (vx_at0 own ic cls names).all thrOk = true) (hn : names.length ≤ 10) (hlv : 0 < lv)
    (d0 : decode cc pc = .ok (.new ik, 3)) (d3 : decode cc (pc + 3) = .ok (.dup, 1)) (d4 : decode cc (pc + 4) = .ok (.invokespecial ic, 3)) (d7 : decode cc (pc + 7) = .ok (.athrow, 1)) (hkc : 1 ≤ kc) (hks : 6 ≤ ks) (hp : PostX cls w) : Z g x nL pc L [] w kc ks := by
  obtain ⟨p, e, R, s, m, args, below, meth, c, Q⟩ := x
  obtain ⟨hx, hb, hml, hown, hts, hK, hlk, hret, hfr, hlo, hs1, hs2⟩ := ok
  intro H locs ls cells slots h1 h2 hG hS hP
  obtain ⟨hQ, hT⟩ := hQ
  subst hQ
  obtain ⟨t1, t2⟩ := hK.thr hts hat hok
  have hss := hK.ss
  have hkp : ∀ a : Nat, a < (gH g).size → ¬ AA g a → s.heap[a]? = (gH g)[a]? := fun a ha _ => hs2 a ha
  refine vx_throw0 (A := AA g) hx hb hK.1.1 hown hcls hnames (hts _ hk) (hts _ hini) t1 ?_ (hss.1.kept hkp) (hss.2.1.kept hkp) hS (by rw [hP.1, hml]) d0 d3 d4 d7 (fun z hz => (hT z hz).elim) (by omega) (by simp; omega) (by omega) (by omega) hlk ?_ hS.2.2 (by omega) (by omega)
  · intro w hw
    rcases List.mem_cons.mp hw with rfl | hw
    · rfl
    · rcases List.mem_cons.mp hw with rfl | hw
      · rfl
      · exact t2 w hw
  · intro t a1 a2 a3
    exact ⟨w, hp, hG.ext a2 a3, Nat.le_trans hS.1 a2, fun q b1 b2 => (a3 q (Nat.lt_of_lt_of_le b1 hS.1)).trans (hS.2.1 q b1 b2)⟩
/-- what was thrown goes on to the caller -/
theorem ZX.out {g : Gx} {x : Cx} {own : String} {cc : ByteArray} {nL lv : Nat} {ret : Option FieldType} {pc : Nat} {L : List (Option Value)} {w : Wd} {kc ks : Nat} {Post : Option Value → Wd → Prop} {PostX : String → Wd → Prop} {E : String} {q : Nat} (ok : OK g x own cc nL lv ret) (hQ : EndQ g x Post PostX) (hp : PostX E w) : ZX g x nL pc L w kc ks E q := by
  obtain ⟨p, e, R, s, m, args, below, meth, c, Q⟩ := x
  obtain ⟨hx, hb, hml, hown, hts, hK, hlk, hret, hfr, hlo, hs1, hs2⟩ := ok
  intro H locs ls cells slots rest ce h1 h2 hG hS hP hce hcv hcl
  obtain ⟨hQ, hT⟩ := hQ
  subst hQ
  refine vx_out (E := E) (fun z hz => (hT z hz).elim) hlk hce hcv hcl ?_ hS.2.2 (by omega) (by omega)
  intro t a1 a2
  exact ⟨w, hp, by rw [a1]; exact hG, hS.F a1⟩
theorem ZX.no {g : Gx} {x : Cx} {nL pc kc ks : Nat} {L : List (Option Value)} : ∀ (E : String) (q : Nat) (w' : Wd), noX E w' → ZX g x nL pc L w' kc ks E q := fun _ _ _ h => h.elim
