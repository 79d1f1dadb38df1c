/-! ===== CALLS, RETURNS, THROWS of the machine Z ===== -/
/-- behind a call, both ways out -/
theorem Z.back {g : Gx} {p : Program} {e : Env} {R : Room} {s : State} {m : MethodId} {args : Array Value} {below : List Frame} {meth : Method} {c : Code} {Q : State → Prop} {nL pc n3 : Nat} {L : List (Option Value)} {rest : List Value} {H : Heap} {locs : List Loc} {ls : Array Slot} {cells slots mc ms kc ks kc' ks' : Nat} {st0 : List Value} {Post : Option Value → Wd → Prop} {PostX : String → Wd → Prop} {aa : Array Value}
    (hr : ∀ T : State, T.heap = H → Stand p (gL g) e R s m args below meth c T locs cells slots →
    (∃ (v : Option Value) (st₀ t T' : State) (L : List Loc), st₀.heap = H ∧ Stand p (gL g) e R s m args below meth c T' (locs ++ L) (cells + mc) (slots + ms) ∧ (∀ q ∈ L, AA g q.base) ∧ T'.heap = t.heap ∧ T'.vm = t.vm ∧ Qc0 g Post aa st₀ (.returned v) t ∧
      Goes p e below T (F0 m pc ls st0) T' (F0 m (pc + n3) ls (v.toList ++ rest))) ∨
    (∃ (q : Addr) (st₀ t T' : State) (L : List Loc) (E : String) (ce : Cell), st₀.heap = H ∧ Stand p (gL g) e R s m args below meth c T' (locs ++ L) (cells + mc) (slots + ms) ∧ (∀ z ∈ L, AA g z.base) ∧ T'.heap = t.heap ∧ T'.vm = t.vm ∧ Xc0 g PostX E st₀ t ∧ t.heap[q]? = some ce ∧ ce.vm = .none ∧ s.vm.findClass E = some ce.cls ∧
      Steps p.tables e below (T.setTop (F0 m pc ls st0)) ((T'.setTop (F0 m pc ls rest)).pushFrame (.throwing q))))
    (h1 : cells + kc ≤ R.cells) (h2 : slots + ks ≤ R.slots) (hkc : kc' + mc ≤ kc) (hks : ks' + ms ≤ ks) (hS : va_S (AA g) s.heap H locs) (hP : PL ls nL L)
    (kX : ∀ (E : String) (q : Nat) (w' : Wd), PostX E w' → ZX g (p, e, R, s, m, args, below, meth, c, Q) nL pc L w' kc' ks' E q)
    (kN : ∀ (v : Option Value) (w' : Wd), Post v w' → Z g (p, e, R, s, m, args, below, meth, c, Q) nL (pc + n3) L (v.toList ++ rest) w' kc' ks') :
    W p (gL g) e R s m args below meth c H locs cells slots Q (F0 m pc ls st0) := by
  intro T hT X
  rcases hr T hT X with ⟨v, st₀, t, T', L1, h0, X', hL1, a1, a2, ⟨v', w', hv, hp, hG', hF⟩, st⟩ | ⟨q, st₀, t, T', L1, E, ce, h0, X', hL1, a1, a2, ⟨w', hp, hG', hF⟩, hce, hcv, hcl, st⟩
  · cases hv
    obtain ⟨k1, k2, k3⟩ := vx_keep (A0 := AA g) h0 a1 hS (fun _ _ z => z) (fun _ z => z) hL1 hF
    obtain ⟨t2, b1, b2⟩ := kN v w' hp T'.heap (locs ++ L1) ls (cells + mc) (slots + ms) (by omega) (by omega) (by rw [a1]; exact hG') k3 hP T' rfl X'
    exact ⟨t2, st t2 b1, b2⟩
  · obtain ⟨k1, k2, k3⟩ := vx_keep (A0 := AA g) h0 a1 hS (fun _ _ z => z) (fun _ z => z) hL1 hF
    obtain ⟨t2, b1, b2⟩ := kX E q w' hp T'.heap (locs ++ L1) ls (cells + mc) (slots + ms) rest ce (by omega) (by omega) (by rw [a1]; exact hG') k3 hP (by rw [a1]; exact hce) hcv hcl T' rfl X'
    exact ⟨t2, st.trans b1, b2⟩
theorem Ct.blind {g : Gx} {args : List Value} {w : Wd} : FrameBlind (va_Pc args (fun U => KK g U ∧ GH g w U.heap)) := fun _ _ _ _ q => ⟨q.1, q.2.1.calling, q.2.2⟩
theorem Ct.pre {g : Gx} {s U : State} {H : Heap} {av : List Value} {w : Wd} (hK : KK g s) (hG : GH g w H) (hU : U.heap = H) (hW : s.WarmedH U.vm) : va_Pc av (fun U => KK g U ∧ GH g w U.heap) av.toArray U := ⟨rfl, hK.warm hW, by rw [hU]; exact hG⟩
/-- 'the room is enough': the callee's level lies under the caller's -/
theorem lv_fit {R : Room} {lv lv' nLc mc ms : Nat} (h1 : 100 * lv ≤ R.frames) (h2 : 1000 * lv ≤ R.locals) (h : lv' < lv) (hn : nLc ≤ 900) : (rmk lv' mc ms).frames + 1 ≤ R.frames ∧ 8 + (nLc + 11) + (rmk lv' mc ms).locals ≤ R.locals := by
  simp only [rmk]
  omega
/-- how 'selects' is known: a word of the lists, or one of lw_ex -/
def SelOk (C : String) (x y : MethodName) : Prop := Cond.selects C x y ∈ lw_all ∨ Cond.selects C x y ∈ lw_ex
theorem SelOk.use {C : String} {x y : MethodName} (h : SelOk C x y) {g : Gx} {s : State} {args : Array Value} (hts : ∀ w ∈ lw_all, w.before args s = true) (hK : KK g s) : (Cond.selects C x y).before args s = true := by
  rcases h with h | h
  · exact hts _ h
  · exact word_at (State.WarmedH.refl s) (good_of_word (List.all_eq_true.mp lw_ex_good _ h)) (hK.2.2.1 _ h)
/-- the callee's name and descriptor -/
abbrev NmOk (cls desc : String) (n : Nat) : Prop := cls ≠ "java/lang/invoke/MethodHandle" ∧ cls ≠ "java/lang/invoke/VarHandle" ∧ (parseMethodDescriptor desc).map (fun d => d.parameters.length) = some n
section CALLS
variable {g : Gx} {x : Cx} {own : String} {cc : ByteArray} {nL lv : Nat} {ret : Option FieldType} {pc : Nat} {L : List (Option Value)} {w : Wd} {kc ks kc' ks' : Nat}
variable {y : MethodName} {cy : ByteArray} {nLy lvy mc ms n index : Nat} {rety : Option FieldType} {As rest : List Value} {Post : Option Value → Wd → Prop} {PostX : String → Wd → Prop}
theorem PL.sz {ls : Array Slot} {nL : Nat} {L : List (Option Value)} (h : PL ls nL L) : ls.size = nL := h.1
/-- a static method -/
theorem Z.callS (ok : OK g x own cc nL lv ret) (hM : Ct g y cy nLy rety lvy mc ms As w Post PostX) (hl : Cond.methodLink own index y ∈ lw_all) (hst : Cond.static y ∈ lw_all) (hini : Cond.initialized y.cls ∈ lw_all) (hcd : Cond.code y cy nLy rety ∈ lw_all) (hnm : NmOk y.cls y.desc n) (hn : As.length = n) (hlv : lvy < lv ∧ nLy ≤ 900) (hrest : (rest.map fun v => v.category).sum ≤ 8) (hkc : kc' + mc ≤ kc) (hks : ks' + ms ≤ ks) (hd : decode cc pc = .ok (.invokestatic index, 3)) {st : List Value} (hst2 : st = As.reverse ++ rest)
    (kX : ∀ (E : String) (q : Nat) (w' : Wd), PostX E w' → ZX g x nL pc L w' kc' ks' E q) (kN : ∀ (v : Option Value) (w' : Wd), Post v w' → Z g x nL (pc + 3) L (v.toList ++ rest) w' kc' ks') : Z g x nL pc L st w kc ks := by
  obtain ⟨p, e, R, s, m, args, below, meth, c, Q⟩ := x
  obtain ⟨hx, hb, hml, hown, hts, hK, hlk, hret, hfr, hlo, hs1, hs2⟩ := ok
  intro H locs ls cells slots h1 h2 hG hS hP
  refine Z.back (n3 := 3) (vx_runS ⟨hx, hb, hml, hown, hts⟩ hM (va_cwS n hts ((lw_S hl hst hini hcd)) rfl rfl rfl hnm (lv_fit hfr hlo hlv.1 hlv.2)) ⟨Ct.blind, fun U hU hW => Ct.pre hK hG hU hW⟩ rfl hn hP.sz hst2 (lv_room hrest) hd ⟨by omega, by omega⟩) h1 h2 hkc hks hS hP kX kN
/-- a constructor -/
theorem Z.callI {b : Nat} (ok : OK g x own cc nL lv ret) (hM : Ct g y cy nLy none lvy mc ms (.ref b :: As) w Post PostX) (hl : Cond.methodLink own index y ∈ lw_all) (hin : Cond.instanceMethod y ∈ lw_all) (hini : Cond.initialized y.cls ∈ lw_all) (hcd : Cond.code y cy nLy none ∈ lw_all) (hy : y.name = "<init>") (hnm : NmOk y.cls y.desc n) (hn : As.length = n) (hlv : lvy < lv ∧ nLy ≤ 900) (hrest : (rest.map fun v => v.category).sum ≤ 8) (hkc : kc' + mc ≤ kc) (hks : ks' + ms ≤ ks) (hd : decode cc pc = .ok (.invokespecial index, 3)) {st : List Value} (hst2 : st = As.reverse ++ .ref b :: rest)
    (kX : ∀ (E : String) (q : Nat) (w' : Wd), PostX E w' → ZX g x nL pc L w' kc' ks' E q) (kN : ∀ (v : Option Value) (w' : Wd), Post v w' → Z g x nL (pc + 3) L (v.toList ++ rest) w' kc' ks') : Z g x nL pc L st w kc ks := by
  obtain ⟨p, e, R, s, m, args, below, meth, c, Q⟩ := x
  obtain ⟨hx, hb, hml, hown, hts, hK, hlk, hret, hfr, hlo, hs1, hs2⟩ := ok
  intro H locs ls cells slots h1 h2 hG hS hP
  refine Z.back (n3 := 3) (vx_runI ⟨hx, hb, hml, hown, hts⟩ hM (cwI n hts (lw_meth hcd) rfl rfl rfl (hts _ hini) (hts _ hl) (hts _ hin) hy hnm (lv_fit hfr hlo hlv.1 hlv.2)) ⟨Ct.blind, fun U hU hW => Ct.pre hK hG hU hW⟩ rfl hn hP.sz hst2 (lv_room hrest) hd ⟨by omega, by omega⟩) h1 h2 hkc hks hS hP kX kN
/-- a nest mate's private constructor -/
theorem Z.callIN {b : Nat} {host : String} (ok : OK g x own cc nL lv ret) (hM : Ct g y cy nLy none lvy mc ms (.ref b :: As) w Post PostX) (hl : Cond.methodLinkNest own index y host ∈ lw_tbl) (hin : Cond.instanceMethod y ∈ lw_all) (hini : Cond.initialized y.cls ∈ lw_all) (hcd : Cond.code y cy nLy none ∈ lw_all) (hy : y.name = "<init>") (hnm : NmOk y.cls y.desc n) (hn : As.length = n) (hlv : lvy < lv ∧ nLy ≤ 900) (hrest : (rest.map fun v => v.category).sum ≤ 8) (hkc : kc' + mc ≤ kc) (hks : ks' + ms ≤ ks) (hd : decode cc pc = .ok (.invokespecial index, 3)) {st : List Value} (hst2 : st = As.reverse ++ .ref b :: rest)
    (kX : ∀ (E : String) (q : Nat) (w' : Wd), PostX E w' → ZX g x nL pc L w' kc' ks' E q) (kN : ∀ (v : Option Value) (w' : Wd), Post v w' → Z g x nL (pc + 3) L (v.toList ++ rest) w' kc' ks') : Z g x nL pc L st w kc ks := by
  obtain ⟨p, e, R, s, m, args, below, meth, c, Q⟩ := x
  obtain ⟨hx, hb, hml, hown, hts, hK, hlk, hret, hfr, hlo, hs1, hs2⟩ := ok
  intro H locs ls cells slots h1 h2 hG hS hP
  refine Z.back (n3 := 3) (vx_runIN ⟨hx, hb, hml, hown, hts⟩ hM ⟨va_cnB n hts (lw_meth hcd) rfl rfl rfl (hK.2.2.2.2.1 _ _ _ _ hl) (hts _ hini) hnm (lv_fit hfr hlo hlv.1 hlv.2), hy, hts _ hin⟩ ⟨Ct.blind, fun U hU hW => Ct.pre hK hG hU hW⟩ rfl hn hP.sz hst2 (lv_room hrest) hd ⟨by omega, by omega⟩) h1 h2 hkc hks hS hP kX kN
/-- an object's own method, by its class -/
theorem Z.callV {b ci t : Nat} {C : String} {q : vw_C} {fs : List Value} (ok : OK g x own cc nL lv ret) (hM : Ct g y cy nLy rety lvy mc ms (.ref b :: As) w Post PostX) (hw : w b = some (ob ci fs, t)) (hc : clA[ci]? = some q) (hC : q.1 = C) (hl : Cond.methodLink own index y ∈ lw_all) (hin : Cond.instanceMethod y ∈ lw_all) (hsel : SelOk C y y) (hini : Cond.initialized y.cls ∈ lw_all) (hcd : Cond.code y cy nLy rety ∈ lw_all) (hnm : NmOk y.cls y.desc n) (hn : As.length = n) (hlv : lvy < lv ∧ nLy ≤ 900) (hrest : (rest.map fun v => v.category).sum ≤ 8) (hkc : kc' + mc ≤ kc) (hks : ks' + ms ≤ ks) (hd : decode cc pc = .ok (.invokevirtual index, 3)) {st : List Value} (hst2 : st = As.reverse ++ .ref b :: rest)
    (kX : ∀ (E : String) (q : Nat) (w' : Wd), PostX E w' → ZX g x nL pc L w' kc' ks' E q) (kN : ∀ (v : Option Value) (w' : Wd), Post v w' → Z g x nL (pc + 3) L (v.toList ++ rest) w' kc' ks') : Z g x nL pc L st w kc ks := by
  obtain ⟨p, e, R, s, m, args, below, meth, c, Q⟩ := x
  obtain ⟨hx, hb, hml, hown, hts, hK, hlk, hret, hfr, hlo, hs1, hs2⟩ := ok
  intro H locs ls cells slots h1 h2 hG hS hP
  subst hC
  refine Z.back (n3 := 3) (vx_runV (C := q.1) ⟨hx, hb, hml, hown, hts⟩ hM ⟨callB_of n hts (lw_meth hcd) rfl rfl rfl (hts _ hini) (hts _ hl) hnm (lv_fit hfr hlo hlv.1 hlv.2), hts _ hin, hsel.use hts hK⟩ ⟨Ct.blind, hG.recv hK hw hc, fun U hU hW => Ct.pre hK hG hU hW⟩ rfl hn hP.sz hst2 (lv_room hrest) hd ⟨by omega, by omega⟩) h1 h2 hkc hks hS hP kX kN
/-- a method named z, the receiver's own is y (inherited, or overriding one that has code) -/
theorem Z.callU {b ci t : Nat} {z : MethodName} {C owner : String} {q : vw_C} {fs : List Value} {bz : ByteArray} {nz : Nat} {rz : Option FieldType} (ok : OK g x own cc nL lv ret) (hM : Ct g y cy nLy rety lvy mc ms (.ref b :: As) w Post PostX) (hw : w b = some (ob ci fs, t)) (hc : clA[ci]? = some q) (hC : q.1 = C) (hl : Cond.methodLink own index z ∈ lw_all) (hsm : Cond.sameMethod z.cls owner z.name z.desc ∈ lw_all) (hiz : Cond.instanceMethod ⟨owner, z.name, z.desc⟩ ∈ lw_all) (hcz : Cond.code ⟨owner, z.name, z.desc⟩ bz nz rz ∈ lw_all) (hin : Cond.instanceMethod y ∈ lw_all) (hsel : SelOk C z y) (hini : Cond.initialized y.cls ∈ lw_all) (hcd : Cond.code y cy nLy rety ∈ lw_all) (hnm : NmOk owner z.desc n) (hn : As.length = n) (hlv : lvy < lv ∧ nLy ≤ 900) (hrest : (rest.map fun v => v.category).sum ≤ 8) (hkc : kc' + mc ≤ kc) (hks : ks' + ms ≤ ks) (hd : decode cc pc = .ok (.invokevirtual index, 3)) {st : List Value} (hst2 : st = As.reverse ++ .ref b :: rest)
    (kX : ∀ (E : String) (q : Nat) (w' : Wd), PostX E w' → ZX g x nL pc L w' kc' ks' E q) (kN : ∀ (v : Option Value) (w' : Wd), Post v w' → Z g x nL (pc + 3) L (v.toList ++ rest) w' kc' ks') : Z g x nL pc L st w kc ks := by
  obtain ⟨p, e, R, s, m, args, below, meth, c, Q⟩ := x
  obtain ⟨hx, hb, hml, hown, hts, hK, hlk, hret, hfr, hlo, hs1, hs2⟩ := ok
  intro H locs ls cells slots h1 h2 hG hS hP
  subst hC
  have hG0 : GoodIn lw_all (ws_ y cy nLy rety) := lw_meth hcd
  have hcu : va_CU R s args own q.1 owner index z y cy nLy rety (ws_ y cy nLy rety) (rmk lvy mc ms) mc ms n := by
    refine ⟨⟨rfl, rfl, (lv_fit hfr hlo hlv.1 hlv.2).1, (lv_fit hfr hlo hlv.1 hlv.2).2, pay_in hts hG0, List.mem_cons_self⟩, hts _ hcd, hts _ hini, ⟨hnm.1, hnm.2.1⟩, fun sig h => ?_, hts _ hl, hts _ hsm, va_Decl.of (hts _ hiz) (hts _ hcz), hsel.use hts hK, hts _ hin⟩
    have h2 := hnm.2.2
    rw [h] at h2
    exact (Option.some.inj h2).symm
  refine Z.back (n3 := 3) (vx_runU (C := q.1) ⟨hx, hb, hml, hown, hts⟩ hM hcu ⟨Ct.blind, hG.recv hK hw hc, fun U hU hW => Ct.pre hK hG hU hW⟩ rfl hn hP.sz hst2 (lv_room hrest) hd ⟨by omega, by omega⟩) h1 h2 hkc hks hS hP kX kN
/-- through an interface: named z, the receiver's is y -/
theorem Z.callF {b ci t count : Nat} {z : MethodName} {C : String} {q : vw_C} {fs : List Value} (ok : OK g x own cc nL lv ret) (hM : Ct g y cy nLy rety lvy mc ms (.ref b :: As) w Post PostX) (hw : w b = some (ob ci fs, t)) (hc : clA[ci]? = some q) (hC : q.1 = C) (hl : Cond.methodLink own index z ∈ lw_all) (hf : Cond.declares z ∈ lw_tbl ∧ Cond.interfaceMethod z.cls z.cls z.name z.desc ∈ lw_tbl ∧ Cond.publicMethod y ∈ lw_tbl ∧ Cond.unhidden C z.name z.desc ∈ lw_tbl ∧ Cond.castable C z.cls ∈ lw_tbl) (hin : Cond.instanceMethod y ∈ lw_all) (hsel : SelOk C z y) (hini : Cond.initialized y.cls ∈ lw_all) (hcd : Cond.code y cy nLy rety ∈ lw_all) (hnm : NmOk z.cls z.desc n) (hn : As.length = n) (hlv : lvy < lv ∧ nLy ≤ 900) (hrest : (rest.map fun v => v.category).sum ≤ 8) (hkc : kc' + mc ≤ kc) (hks : ks' + ms ≤ ks) (hd : decode cc pc = .ok (.invokeinterface index count, 5)) {st : List Value} (hst2 : st = As.reverse ++ .ref b :: rest)
    (kX : ∀ (E : String) (q : Nat) (w' : Wd), PostX E w' → ZX g x nL pc L w' kc' ks' E q) (kN : ∀ (v : Option Value) (w' : Wd), Post v w' → Z g x nL (pc + 5) L (v.toList ++ rest) w' kc' ks') : Z g x nL pc L st w kc ks := by
  obtain ⟨p, e, R, s, m, args, below, meth, c, Q⟩ := x
  obtain ⟨hx, hb, hml, hown, hts, hK, hlk, hret, hfr, hlo, hs1, hs2⟩ := ok
  intro H locs ls cells slots h1 h2 hG hS hP
  subst hC
  obtain ⟨f1, f2, f3, f4, f5⟩ := hf
  have hF : va_Fw q.1 z y s := hK.2.2.2.2.2.2.1 _ _ _ f1 f2 f3 f4 f5 ⟨hnm.1, hnm.2.1⟩
  have hG0 : GoodIn lw_all (ws_ y cy nLy rety) := lw_meth hcd
  have hci : va_CI R s args own q.1 index z y cy nLy rety (ws_ y cy nLy rety) (rmk lvy mc ms) mc ms n := by
    refine ⟨⟨rfl, rfl, (lv_fit hfr hlo hlv.1 hlv.2).1, (lv_fit hfr hlo hlv.1 hlv.2).2, pay_in hts hG0, List.mem_cons_self⟩, hts _ hl, va_any rfl hF.1, va_any rfl hF.2.1, hsel.use hts hK, hts _ hin, va_any rfl hF.2.2.1, va_any rfl hF.2.2.2.1, va_any rfl hF.2.2.2.2, hts _ hini, hts _ hcd, ⟨hnm.1, hnm.2.1⟩, fun sig h => ?_⟩
    have h2 := hnm.2.2
    rw [h] at h2
    exact (Option.some.inj h2).symm
  refine Z.back (n3 := 5) (vx_runF (C := q.1) (hK.k.1 ci q hc).2 ⟨hx, hb, hml, hown, hts⟩ hM hci ⟨Ct.blind, hG.recv hK hw hc, fun U hU hW => Ct.pre hK hG hU hW⟩ rfl hn hP.sz hst2 (lv_room hrest) hd ⟨by omega, by omega⟩) h1 h2 hkc hks hS hP kX kN
/-- Object's constructor -/
theorem Z.objInit {a : Nat} {st : List Value} (ok : OK g x own cc nL lv ret) (hl : Cond.methodLink own index Lib.objectInit ∈ lw_all) (hin : Cond.instanceMethod Lib.objectInit ∈ lw_all) (hcd : Cond.code Lib.objectInit ⟨#[0xb1]⟩ 1 none ∈ lw_all) (hlv : 0 < lv) (hrest : (st.map fun v => v.category).sum ≤ 8) (hd : decode cc pc = .ok (.invokespecial index, 3)) (kk : Z g x nL (pc + 3) L st w kc ks) : Z g x nL pc L (.ref a :: st) w kc ks := by
  obtain ⟨p, e, R, s, m, args, below, meth, c, Q⟩ := x
  obtain ⟨hx, hb, hml, hown, hts, hK, hlk, hret, hfr, hlo, hs1, hs2⟩ := ok
  intro H locs ls cells slots h1 h2 hG hS hP
  exact W.objInit hx hb hown (hts _ hl) (hts _ hin) (hts _ hcd) rfl (by rw [hml]; exact hP.sz) rfl hd (by omega) (by have := lv_room (m := m) (pc := pc) (ls := ls) (rest := .ref a :: st) hrest; omega) (kk H locs ls cells slots h1 h2 hG hS hP)
end CALLS
/-! ends -/
section ENDS
variable {g : Gx} {x : Cx} {own : String} {cc : ByteArray} {nL lv : Nat} {ret : Option FieldType} {pc : Nat} {L : List (Option Value)} {w : Wd} {kc ks : Nat} {Post : Option Value → Wd → Prop} {PostX : String → Wd → Prop}
theorem Z.iret {v : Int32} {ty : FieldType} (ok : OK g x own cc nL lv (some ty)) (hQ : EndQ g x Post PostX) (hn : narrow ty (.int v) = .int v) (hd : decode cc pc = .ok (.ireturn, 1)) (hp : Post (some (.int v)) w) : Z g x nL pc L [.int v] w kc ks := by
  obtain ⟨p, e, R, s, m, args, below, meth, c, Q⟩ := x
  obtain ⟨hx, hb, hml, hown, hts, hK, hlk, hret, hfr, hlo, hs1, hs2⟩ := ok
  intro H locs ls cells slots h1 h2 hG hS hP
  obtain ⟨hQ, -⟩ := hQ
  subst hQ
  refine vx_ret (W.widen (k := R.cells) (n := R.slots) (by omega) (by omega) ?_)
  exact W.zret hx hb hret hn (fun t ht hW => ⟨_, w, rfl, hp, by rw [ht]; exact hG, hS.F ht⟩) hS.2.2 hd
theorem Z.vret {st : List Value} (ok : OK g x own cc nL lv none) (hQ : EndQ g x Post PostX) (hst : st = []) (hd : decode cc pc = .ok (.return_, 1)) (hp : Post none w) : Z g x nL pc L st w kc ks := by
  obtain ⟨p, e, R, s, m, args, below, meth, c, Q⟩ := x
  obtain ⟨hx, hb, hml, hown, hts, hK, hlk, hret, hfr, hlo, hs1, hs2⟩ := ok
  intro H locs ls cells slots h1 h2 hG hS hP
  obtain ⟨hQ, -⟩ := hQ
  subst hQ
  subst hst
  refine vx_ret (W.widen (k := R.cells) (n := R.slots) (by omega) (by omega) ?_)
  exact W.vret hx hb hret (fun t ht hW => ⟨_, w, rfl, hp, by rw [ht]; exact hG, hS.F ht⟩) hS.2.2 hd
theorem Z.aret {v : Value} {ty : FieldType} (ok : OK g x own cc nL lv (some ty)) (hQ : EndQ g x Post PostX) (hty : (∃ n, ty = .object n) ∨ ∃ t, ty = .array t) (hv : isRf v) (hd : decode cc pc = .ok (.areturn, 1)) (hp : Post (some v) w) : Z g x nL pc L [v] w kc ks := by
  obtain ⟨p, e, R, s, m, args, below, meth, c, Q⟩ := x
  obtain ⟨hx, hb, hml, hown, hts, hK, hlk, hret, hfr, hlo, hs1, hs2⟩ := ok
  intro H locs ls cells slots h1 h2 hG hS hP
  obtain ⟨hQ, -⟩ := hQ
  subst hQ
  refine vx_ret (W.widen (k := R.cells) (n := R.slots) (by omega) (by omega) ?_)
  exact W.aret hx hb hret hty hv (fun t ht hW => ⟨_, w, rfl, hp, by rw [ht]; exact hG, hS.F ht⟩) hS.2.2 hd
end ENDS
theorem lvargs_mem : ∀ (vs : List Value) (i j : Nat) (v : Value), (∀ u ∈ vs, u.category = 1) → vs[j]? = some v → (i + j, v) ∈ lv_args i vs
  | [], i, j, v, _, h => by simp at h
  | u :: vs, i, j, v, hc, h => by
    have hu : ¬ u.category = 2 := by rw [hc u List.mem_cons_self]; decide
    rw [lv_args, if_neg hu]
    cases j with
    | zero =>
      simp at h
      rw [h]
      exact List.mem_cons_self
    | succ j =>
      have := lvargs_mem vs (i + 1) j v (fun u h => hc u (List.mem_cons_of_mem _ h)) (by simpa using h)
      rw [show i + (j + 1) = i + 1 + j by omega]
      exact List.mem_cons_of_mem _ this
theorem lgsl_len (vs : List Value) (hc : ∀ u ∈ vs, u.category = 1) : (lg_sl vs).length = vs.length := by
  induction vs with
  | nil => rfl
  | cons u vs ih =>
    have hu : ¬ u.category = 2 := by rw [hc u List.mem_cons_self]; decide
    have := ih (fun u h => hc u (List.mem_cons_of_mem _ h))
    simp only [lg_sl, List.flatMap_cons, if_neg hu] at this ⊢
    simp [this]
theorem PL.ent {vs : List Value} {nL : Nat} (hc : ∀ u ∈ vs, u.category = 1) (hn : vs.length ≤ nL) {ls : Array Slot} (h : lv_has ls nL (lv_args 0 vs)) : PL ls nL (entL nL vs) := by
  refine PL.of_has h (by simp [entL]; omega) (fun i v hi => ?_)
  unfold entL at hi
  by_cases hl : i < vs.length
  · rw [List.getElem?_append_left (by simpa using hl), List.getElem?_map] at hi
    cases hv : vs[i]? with
    | none => rw [hv] at hi; cases hi
    | some u =>
      rw [hv] at hi
      cases hi
      refine ⟨?_, hc _ (List.mem_of_getElem? hv)⟩
      have := lvargs_mem vs 0 i v hc hv
      rwa [Nat.zero_add] at this
  · rw [List.getElem?_append_right (by simpa using hl), List.getElem?_replicate] at hi
    split at hi <;> cases hi
theorem Ct.of {g : Gx} {y : MethodName} {cy : ByteArray} {nLy lv mc ms : Nat} {ret : Option FieldType} {args : List Value} {w : Wd} {Post : Option Value → Wd → Prop} {PostX : String → Wd → Prop} (own nm : String) (hown : y.cls = own ∧ y.name = nm) (hy : plainName y.cls = true) (hc : ∀ u ∈ args, u.category = 1) (hn : args.length ≤ nLy)
    (body : ∀ x : Cx, OK g x own cy nLy lv ret → EndQ g x Post PostX → NameIs x nm → Z g x nLy 0 (entL nLy args) [] w mc ms) : Ct g y cy nLy ret lv mc ms args w Post PostX := by
  refine vx_ofW hy rfl ?_
  intro p e s m args' below meth c s₁ B hml ht hv
  obtain ⟨rfl, hK, hG⟩ := hv
  obtain ⟨rfl, rfl⟩ := hown
  have hts := atoms_spec (ws := ws_ y cy nLy ret) B.pre
  have hts : ∀ w ∈ lw_all, w.before args.toArray s = true := fun w h => hts w (List.mem_cons_of_mem _ h)
  have hl := lv_entry args (n := nLy) (by rw [lgsl_len args hc]; exact hn)
  rw [lg_entry_eq]
  have hb := body (p, e, (headSpec (ws_ y cy nLy ret) (rmk lv mc ms)).room, s, m, args.toArray, below, meth, c, vx_MQ below (Qc0 g Post) (Xc0 g PostX) args.toArray s mc ms (AA g)) ⟨B.exec, B.bytes, hml, findClass_of_methodNamed B.named, hts, hK, B.notSynchronized, B.returns, Nat.le_refl _, Nat.le_refl _, hG.2.1, hG.2.2⟩ ⟨rfl, ht⟩ (name_of_methodNamed B.named B.method).1
  exact hb s.heap [] _ 0 0 (Nat.le_of_eq (Nat.zero_add _)) (Nat.le_of_eq (Nat.zero_add _)) hG va_S.rf (PL.ent hc hn hl)
