/-! ===== a call through an interface that lands in its default method ===== -/
theorem Z.callFD {g : Gx} {x : Cx} {own : String} {cc : ByteArray} {nL lv : Nat} {ret : Option FieldType} {pc : Nat} {L : List (Option Value)} {w : Wd} {kc ks kc' ks' : Nat} {cy : ByteArray} {nLy lvy mc ms n index : Nat} {rety : Option FieldType} {As rest : List Value} {Post : Option Value → Wd → Prop} {PostX : String → Wd → Prop} {b ci t count : Nat} {z : MethodName} {C : String} {q : vw_C} {fs : List Value} (ok : OK g x own cc nL lv ret) (hM : Ct g z cy nLy rety lvy mc ms (.ref b :: As) w Post PostX) (hw : w b = some (ob ci fs, t)) (hc : clA[ci]? = some q) (hC : q.1 = C) (hl : Cond.methodLink own index z ∈ lw_all) (hf : Cond.declares z ∈ lw_tbl ∧ Cond.interfaceMethod z.cls z.cls z.name z.desc ∈ lw_tbl ∧ Cond.publicMethod z ∈ lw_tbl ∧ Cond.unhidden C z.name z.desc ∈ lw_tbl ∧ Cond.castable C z.cls ∈ lw_tbl) (hin : Cond.instanceMethod z ∈ lw_all) (hsel : ∀ U, KK g U → selD C z U) (hini : Cond.initialized z.cls ∈ lw_all) (hcd : Cond.code z cy nLy rety ∈ lw_all) (hnm : NmOk z.cls z.desc n) (hn : As.length = n) (hlv : lvy < lv ∧ nLy ≤ 900) (hrest : (rest.map fun v => v.category).sum ≤ 8) (hkc : kc' + mc ≤ kc) (hks : ks' + ms ≤ ks) (hd : decode cc pc = .ok (.invokeinterface index count, 5)) {st : List Value} (hst2 : st = As.reverse ++ .ref b :: rest)
    (kX : ∀ (E : String) (q : Nat) (w' : Wd), PostX E w' → ZX g x nL pc L w' kc' ks' E q) (kN : ∀ (v : Option Value) (w' : Wd), Post v w' → Z g x nL (pc + 5) L (v.toList ++ rest) w' kc' ks') : Z g x nL pc L st w kc ks := by
  obtain ⟨p, e, R, s, m, args, below, meth, c, Q⟩ := x
  obtain ⟨hx, hb, hml, hown, hts, hK, hlk, hret, hfr, hlo, hs1, hs2⟩ := ok
  intro H locs ls cells slots h1 h2 hG hS hP
  subst hC
  obtain ⟨f1, f2, f3, f4, f5⟩ := hf
  have hF : va_Fw q.1 z z s := hK.2.2.2.2.2.2.1 _ _ _ f1 f2 f3 f4 f5 ⟨hnm.1, hnm.2.1⟩
  have hG0 : GoodIn lw_all (ws_ z cy nLy rety) := lw_meth hcd
  refine Z.back (n3 := 5) (vx_runFD (C := q.1) (hK.k.1 ci q hc).2 ⟨hx, hb, hml, hown, hts⟩ hM rfl rfl (lv_fit hfr hlo hlv.1 hlv.2).1 (lv_fit hfr hlo hlv.1 hlv.2).2 (pay_in hts hG0) List.mem_cons_self (hts _ hl) (va_any rfl hF.1) (va_any rfl hF.2.1) (hsel s hK) (hts _ hin) (va_any rfl hF.2.2.1) (va_any rfl hF.2.2.2.1) (va_any rfl hF.2.2.2.2) (hts _ hini) (hts _ hcd) ⟨hnm.1, hnm.2.1⟩ (fun sig h => ?_) ⟨Ct.blind, hG.recv hK hw hc, fun U hU hW => Ct.pre hK hG hU hW⟩ rfl hn hP.sz hst2 (lv_room hrest) hd ⟨by omega, by omega⟩) h1 h2 hkc hks hS hP kX kN
  have h2 := hnm.2.2
  rw [h] at h2
  exact (Option.some.inj h2).symm
