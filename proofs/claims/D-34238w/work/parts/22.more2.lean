/-! ===== MORE RULES: super calls, casts of arrays, switches ===== -/
/-- super.y(..), to a method of the class above -/
theorem Z.callSU {g : Gx} {x : Cx} {own : String} {cc : ByteArray} {nL lv : Nat} {ret : Option FieldType} {pc : Nat} {L : List (Option Value)} {w : Wd} {kc ks : Nat} {y : MethodName} {cy : ByteArray} {nLy lvy mc ms n index kc' ks' : Nat} {rety : Option FieldType} {As rest : List Value} {Post : Option Value → Wd → Prop} {PostX : String → Wd → Prop} {b ci t : Nat} {q : vw_C} {fs : List Value} (ok : OK g x own cc nL lv ret) (hM : Ct g y cy nLy rety lvy mc ms (.ref b :: As) w Post PostX) (hw : w b = some (ob ci fs, t)) (hc : clA[ci]? = some q) (hl : Cond.methodLink own index y ∈ lw_all) (hsm : Cond.sameMethod y.cls y.cls y.name y.desc ∈ lw_all) (hsu : Cond.superclass own y.cls ∈ lw_all) (hin : Cond.instanceMethod y ∈ lw_all) (hini : Cond.initialized y.cls ∈ lw_all) (hcd : Cond.code y cy nLy rety ∈ lw_all) (hy : y.name ≠ "<init>") (hnm : NmOk y.cls y.desc n) (hn : As.length = n) (hlv : lvy < lv ∧ nLy ≤ 900) (hrest : (rest.map fun v => v.category).sum ≤ 8) (hkc : kc' + mc ≤ kc) (hks : ks' + ms ≤ ks) (hd : decode cc pc = .ok (.invokespecial index, 3)) {st : List Value} (hst2 : st = As.reverse ++ .ref b :: rest)
    (kX : ∀ (E : String) (q : Nat) (w' : Wd), PostX E w' → ZX g x nL pc L w' kc' ks' E q) (kN : ∀ (v : Option Value) (w' : Wd), Post v w' → Z g x nL (pc + 3) L (v.toList ++ rest) w' kc' ks') : Z g x nL pc L st w kc ks := by
  obtain ⟨p, e, R, s, m, args, below, meth, c, Q⟩ := x
  obtain ⟨hx, hb, hml, hown, hts, hK, hlk, hret, hfr, hlo, hs1, hs2⟩ := ok
  intro H locs ls cells slots h1 h2 hG hS hP
  have hG0 : GoodIn lw_all (ws_ y cy nLy rety) := lw_meth hcd
  have hcs : va_CS R s args own index y cy nLy rety (ws_ y cy nLy rety) (rmk lvy mc ms) mc ms n := by
    refine ⟨⟨rfl, rfl, (lv_fit hfr hlo hlv.1 hlv.2).1, (lv_fit hfr hlo hlv.1 hlv.2).2, pay_in hts hG0, List.mem_cons_self⟩, hts _ hl, hts _ hsm, hts _ hsu, hts _ hin, hts _ hini, hts _ hcd, hy, fun sig h => ?_⟩
    have h2 := hnm.2.2
    rw [h] at h2
    exact (Option.some.inj h2).symm
  refine Z.back (n3 := 3) (vx_runSU (C := q.1) (hK.k.1 ci q hc).2 ⟨hx, hb, hml, hown, hts⟩ hM hcs ⟨Ct.blind, hG.recv hK hw hc, fun U hU hW => Ct.pre hK hG hU hW⟩ rfl hn hP.sz hst2 (lv_room hrest) hd ⟨by omega, by omega⟩) h1 h2 hkc hks hS hP kX kN
theorem Z.castB {g : Gx} {x : Cx} {own : String} {cc : ByteArray} {nL lv : Nat} {ret : Option FieldType} {pc : Nat} {L : List (Option Value)} {st : List Value} {w : Wd} {kc ks : Nat} {a t index n : Nat} {f : Nat → Int32} (ok : OK g x own cc nL lv ret) (hw : w a = some (eB g n f, t)) (hlink : Cond.classLink own index "[B" ∈ lw_all) (hd : decode cc pc = .ok (.checkcast index, 3)) (kk : Z g x nL (pc + 3) L (.ref a :: st) w kc ks) : Z g x nL pc L (.ref a :: st) w kc ks := by
  obtain ⟨p, e, R, s, m, args, below, meth, c, Q⟩ := x
  obtain ⟨hx, hb, hml, hown, hts, hK, hlk, hret, hfr, hlo, hs1, hs2⟩ := ok
  intro H locs ls cells slots h1 h2 hG hS hP
  exact va_castA hx hb hown (hts _ hlink) (hG.one hw) 0 rfl (va_nm_byte (hK.k.2 2 _ rfl).2) hd (kk H locs ls cells slots h1 h2 hG hS hP)
/-- as callU, the named method being native -/
theorem Z.callUD {g : Gx} {x : Cx} {own : String} {cc : ByteArray} {nL lv : Nat} {ret : Option FieldType} {pc : Nat} {L : List (Option Value)} {w : Wd} {kc ks kc' ks' : Nat} {y : MethodName} {cy : ByteArray} {nLy lvy mc ms n index : Nat} {rety : Option FieldType} {As rest : List Value} {Post : Option Value → Wd → Prop} {PostX : String → Wd → Prop} {b ci t : Nat} {z : MethodName} {C owner : String} {q : vw_C} {fs : List Value} (ok : OK g x own cc nL lv ret) (hM : Ct g y cy nLy rety lvy mc ms (.ref b :: As) w Post PostX) (hw : w b = some (ob ci fs, t)) (hc : clA[ci]? = some q) (hC : q.1 = C) (hl : Cond.methodLink own index z ∈ lw_all) (hsm : Cond.sameMethod z.cls owner z.name z.desc ∈ lw_all) (hdc : Cond.declares ⟨owner, z.name, z.desc⟩ ∈ lw_tbl) (hin : Cond.instanceMethod y ∈ lw_all) (hsel : SelOk C z y) (hini : Cond.initialized y.cls ∈ lw_all) (hcd : Cond.code y cy nLy rety ∈ lw_all) (hnm : NmOk owner z.desc n) (hn : As.length = n) (hlv : lvy < lv ∧ nLy ≤ 900) (hrest : (rest.map fun v => v.category).sum ≤ 8) (hkc : kc' + mc ≤ kc) (hks : ks' + ms ≤ ks) (hd : decode cc pc = .ok (.invokevirtual index, 3)) {st : List Value} (hst2 : st = As.reverse ++ .ref b :: rest)
    (kX : ∀ (E : String) (q : Nat) (w' : Wd), PostX E w' → ZX g x nL pc L w' kc' ks' E q) (kN : ∀ (v : Option Value) (w' : Wd), Post v w' → Z g x nL (pc + 3) L (v.toList ++ rest) w' kc' ks') : Z g x nL pc L st w kc ks := by
  obtain ⟨p, e, R, s, m, args, below, meth, c, Q⟩ := x
  obtain ⟨hx, hb, hml, hown, hts, hK, hlk, hret, hfr, hlo, hs1, hs2⟩ := ok
  intro H locs ls cells slots h1 h2 hG hS hP
  subst hC
  have hG0 : GoodIn lw_all (ws_ y cy nLy rety) := lw_meth hcd
  have hcu : va_CU R s args own q.1 owner index z y cy nLy rety (ws_ y cy nLy rety) (rmk lvy mc ms) mc ms n := by
    refine ⟨⟨rfl, rfl, (lv_fit hfr hlo hlv.1 hlv.2).1, (lv_fit hfr hlo hlv.1 hlv.2).2, pay_in hts hG0, List.mem_cons_self⟩, hts _ hcd, hts _ hini, ⟨hnm.1, hnm.2.1⟩, fun sig h => ?_, hts _ hl, hts _ hsm, va_Decl.abs (hK.2.2.2.2.2.2.2.2.1 _ hdc), hsel.use hts hK, hts _ hin⟩
    have h2 := hnm.2.2
    rw [h] at h2
    exact (Option.some.inj h2).symm
  refine Z.back (n3 := 3) (vx_runU (C := q.1) ⟨hx, hb, hml, hown, hts⟩ hM hcu ⟨Ct.blind, hG.recv hK hw hc, fun U hU hW => Ct.pre hK hG hU hW⟩ rfl hn hP.sz hst2 (lv_room hrest) hd ⟨by omega, by omega⟩) h1 h2 hkc hks hS hP kX kN
