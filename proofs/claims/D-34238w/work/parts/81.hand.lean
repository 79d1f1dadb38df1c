/-! ===== METHODS WITH HANDLERS ===== -/
abbrev Hh : Type := List (Nat × Nat × Nat × Nat)
def EndH (g : Gx) (x : Cx) (Post : Option Value → Wd → Prop) (PostX : String → Wd → Prop) (hh : Hh) : Prop :=
  match x with
  | (p, e, R, s, m, args, below, meth, c, Q) => Q = vx_MQ below (Qc0 g Post) (Xc0 g PostX) args s R.cells R.slots (AA g) ∧ c.exceptionTable.toList.map (fun h => (h.startPc, h.endPc, h.handlerPc, h.catchType)) = hh
/-- a contract of a method with handlers -/
def CtW (g : Gx) (y : MethodName) (cc : ByteArray) (nL : Nat) (ret : Option FieldType) (hh : Hh) (lv mc ms : Nat) (args : List Value) (w : Wd) (Post : Option Value → Wd → Prop) (PostX : String → Wd → Prop) : Prop :=
  vx_Met (gL g) y (wsW_ y cc nL ret hh) (rmk lv mc ms) (va_Pc args (fun U => KK g U ∧ GH g w U.heap)) (Qc0 g Post) (Xc0 g PostX) mc ms (AA g)
theorem CtW.of {g : Gx} {y : MethodName} {cy : ByteArray} {nLy lv mc ms : Nat} {ret : Option FieldType} {hh : Hh} {args : List Value} {w : Wd} {Post : Option Value → Wd → Prop} {PostX : String → Wd → Prop} (own nm : String) (hown : y.cls = own ∧ y.name = nm) (hy : plainName y.cls = true) (hc : ∀ u ∈ args, u.category = 1) (hn : args.length ≤ nLy)
    (body : ∀ x : Cx, OK g x own cy nLy lv ret → EndH g x Post PostX hh → Z g x nLy 0 (entL nLy args) [] w mc ms) : CtW g y cy nLy ret hh lv mc ms args w Post PostX := by
  refine vx_ofWH (hh := hh) hy rfl ?_
  intro p e s m args' below meth c s₁ B hml hv
  obtain ⟨rfl, hK, hG⟩ := hv
  obtain ⟨rfl, rfl⟩ := hown
  have hts := atoms_spec (ws := wsW_ y cy nLy ret hh) B.pre
  have ht : c.exceptionTable.toList.map (fun h => (h.startPc, h.endPc, h.handlerPc, h.catchType)) = hh := by
    obtain ⟨m9, meth9, c9, hn9, h1, h2, h3, h4, h5, -⟩ := Cond.codeWith_spec (hts _ List.mem_cons_self)
    cases Option.some.inj (B.named.symm.trans hn9)
    cases Option.some.inj (h1.symm.trans B.method)
    cases Option.some.inj (h2.symm.trans (Stand.of_body B).code)
    exact h5
  have hts : ∀ w ∈ lw_all, w.before args.toArray s = true := fun w h => hts w (List.mem_cons_of_mem _ h)
  have hl := lv_entry args (n := nLy) (by rw [lgsl_len args hc]; exact hn)
  rw [lg_entry_eq]
  have hb := body (p, e, (headSpec (wsW_ y cy nLy ret hh) (rmk lv mc ms)).room, s, m, args.toArray, below, meth, c, vx_MQ below (Qc0 g Post) (Xc0 g PostX) args.toArray s mc ms (AA g)) ⟨B.exec, B.bytes, hml, findClass_of_methodNamed B.named, hts, hK, B.notSynchronized, B.returns, Nat.le_refl _, Nat.le_refl _, hG.2.1, hG.2.2⟩ ⟨rfl, ht⟩
  exact hb s.heap [] _ 0 0 (Nat.le_of_eq (Nat.zero_add _)) (Nat.le_of_eq (Nat.zero_add _)) hG va_S.rf (PL.ent hc hn hl)
section HAND
variable {g : Gx} {x : Cx} {own : String} {cc : ByteArray} {nL lv : Nat} {ret : Option FieldType} {pc : Nat} {L : List (Option Value)} {w : Wd} {kc ks kc' ks' : Nat} {hh : Hh} {Post : Option Value → Wd → Prop} {PostX : String → Wd → Prop}
theorem Z.iretH {v : Int32} {ty : FieldType} (ok : OK g x own cc nL lv (some ty)) (hQ : EndH g x Post PostX hh) (hn : narrow ty (.int v) = .int v) (hd : decode cc pc = .ok (.ireturn, 1)) (hp : Post (some (.int v)) w) : Z g x nL pc L [.int v] w kc ks := by
  obtain ⟨p, e, R, s, m, args, below, meth, c, Q⟩ := x
  obtain ⟨hx, hb, hml, hown, hts, hK, hlk, hret, hfr, hlo, hs1, hs2⟩ := ok
  intro H locs ls cells slots h1 h2 hG hS hP
  obtain ⟨hQ, -⟩ := hQ
  subst hQ
  refine vx_ret (W.widen (k := R.cells) (n := R.slots) (by omega) (by omega) ?_)
  exact W.zret hx hb hret hn (fun t ht hW => ⟨_, w, rfl, hp, by rw [ht]; exact hG, hS.F ht⟩) hS.2.2 hd
theorem ZX.catch {E name : String} {q sp ep hpc ct : Nat} (ok : OK g x own cc nL lv ret) (hQ : EndH g x Post PostX hh) (pre suf : Hh) (hsplit : hh = pre ++ (sp, ep, hpc, ct) :: suf) (hpass : ∀ z ∈ pre, z.2.2.2 ≠ 0 ∧ ∃ nm : String, Cond.classLink own z.2.2.2 nm ∈ lw_all ∧ (E, nm) ∈ ncL) (hcov : sp ≤ pc ∧ pc < ep) (h0 : ct ≠ 0) (hlink : Cond.classLink own ct name ∈ lw_all) (hcast : Cond.castable E name ∈ lw_tbl) (kk : Z g x nL hpc L [.ref q] w kc ks) : ZX g x nL pc L w kc ks E q := by
  obtain ⟨p, e, R, s, m, args, below, meth, c, Q⟩ := x
  obtain ⟨hx, hb, hml, hown, hts, hK, hlk, hret, hfr, hlo, hs1, hs2⟩ := ok
  intro H locs ls cells slots rest ce h1 h2 hG hS hP hce hcv hcl
  obtain ⟨-, hT⟩ := hQ
  rw [hsplit] at hT
  obtain ⟨l1, l2, e1, e2, e3⟩ := List.map_eq_append_iff.mp hT
  obtain ⟨z0, l3, e4, e5, e6⟩ := List.map_eq_cons_iff.mp e3
  have f1 : z0.startPc = sp := congrArg (·.1) e5
  have f2 : z0.endPc = ep := congrArg (·.2.1) e5
  have f3 : z0.handlerPc = hpc := congrArg (·.2.2.1) e5
  have f4 : z0.catchType = ct := congrArg (·.2.2.2) e5
  refine vx_catch (E := E) (name := name) hown l1 z0 l3 (by rw [e1, e4]) (fun z hz => Or.inr ?_) ?_ (by rw [f4]; exact h0) (by rw [f4]; exact hts _ hlink) (va_Nw.use rfl (hK.2.2.2.1 _ _ hcast)) hce hcv hcl ?_
  · have hm : (z.startPc, z.endPc, z.handlerPc, z.catchType) ∈ pre := by
      rw [← e2]
      exact List.mem_map.mpr ⟨z, hz, rfl⟩
    obtain ⟨k0, nm, k1, k2⟩ := hpass _ hm
    exact ⟨k0, nm, hts _ k1, hK.2.2.2.2.2.2.2.1 _ k2⟩
  · unfold covers
    rw [f1, f2]
    simp [hcov.1, hcov.2]
  · rw [f3]
    exact kk H locs ls cells slots h1 h2 hG hS hP
/-- a static method with handlers -/
theorem Z.callSW {y : MethodName} {cy : ByteArray} {nLy lvy mc ms n index : Nat} {rety : Option FieldType} {hhy : Hh} {As rest : List Value} (ok : OK g x own cc nL lv ret) (hM : CtW g y cy nLy rety hhy lvy mc ms As w Post PostX) (hl : Cond.methodLink own index y ∈ lw_all) (hst : Cond.static y ∈ lw_all) (hini : Cond.initialized y.cls ∈ lw_all) (hcd : Cond.codeWith y cy nLy rety hhy ∈ lw_all) (hnm : NmOk y.cls y.desc n) (hn : As.length = n) (hlv : lvy < lv ∧ nLy ≤ 900) (hrest : (rest.map fun v => v.category).sum ≤ 8) (hkc : kc' + mc ≤ kc) (hks : ks' + ms ≤ ks) (hd : decode cc pc = .ok (.invokestatic index, 3)) {st : List Value} (hst2 : st = As.reverse ++ rest)
    (kX : ∀ (E : String) (q : Nat) (w' : Wd), PostX E w' → ZX g x nL pc L w' kc' ks' E q) (kN : ∀ (v : Option Value) (w' : Wd), Post v w' → Z g x nL (pc + 3) L (v.toList ++ rest) w' kc' ks') : Z g x nL pc L st w kc ks := by
  obtain ⟨p, e, R, s, m, args, below, meth, c, Q⟩ := x
  obtain ⟨hx, hb, hml, hown, hts, hK, hlk, hret, hfr, hlo, hs1, hs2⟩ := ok
  intro H locs ls cells slots h1 h2 hG hS hP
  refine Z.back (n3 := 3) (vx_runSX (hh := hhy) ⟨hx, hb, hml, hown, hts⟩ hM (vx_cwSW n hts ((lw_SW hl hst hini hcd)) rfl rfl rfl hnm (lv_fit hfr hlo hlv.1 hlv.2)) ⟨Ct.blind, fun U hU hW => Ct.pre hK hG hU hW⟩ rfl hn hP.sz hst2 (lv_room hrest) hd ⟨by omega, by omega⟩) h1 h2 hkc hks hS hP kX kN
end HAND
