/-! ===== HEAP RULES of the machine Z ===== -/
theorem KK.k {g : Gx} {U : State} (h : KK g U) : va_K (gD g) clA (tyA g) U := h.2.1
/-- what a field or an array's place takes -/
def okV (ty : FieldType) (v : Value) : Prop := narrow ty v = v ∧ fits ty v = true
theorem okV_i (x : Int32) : okV .int (.int x) := ⟨rfl, rfl⟩
theorem okV_z0 : okV .boolean (.int 0) := ⟨rfl, rfl⟩
theorem okV_z1 : okV .boolean (.int 1) := ⟨rfl, rfl⟩
theorem okV_o {C : String} {v : Value} (h : isRf v) : okV (.object C) v := by
  rcases h with rfl | ⟨a, rfl⟩ <;> exact ⟨rfl, rfl⟩
theorem okV_a {t : FieldType} {v : Value} (h : isRf v) : okV (.array t) v := by
  rcases h with rfl | ⟨a, rfl⟩ <;> exact ⟨rfl, rfl⟩
/-- a field of this class or of one above: as the reference spells it -/
def SameF (ref o n d : String) : Prop := ref = o ∨ Cond.sameField ref o n d ∈ lw_all
theorem SameF.ok {ref o n d : String} (h : SameF ref o n d) {s : State} {args : Array Value} (hts : ∀ w ∈ lw_all, w.before args s = true) : ∀ x, s.fieldFound? o n d = some x → s.fieldFound? ref n d = some x := by
  rcases h with rfl | h
  · exact fun x h => h
  · exact fun x hx => u_same (hts _ h) x hx
theorem Z.get {g : Gx} {x : Cx} {own : String} {cc : ByteArray} {nL lv : Nat} {ret : Option FieldType} {pc : Nat} {L : List (Option Value)} {st : List Value} {w : Wd} {kc ks : Nat} {ref C : String} {T : u_T} {N ci index a t : Nat} {fs : List Value} {v : Value} (ok : OK g x own cc nL lv ret) (hw : w a = some (ob ci fs, t)) (hc : clA[ci]? = some (C, T, N)) (hin : ∀ q ∈ u_ws C T N, q ∈ lw_all) (k : Nat) (hk : k < N) (hlink : Cond.fieldLink own index ref (T k).2.1 (T k).2.2.1 ∈ lw_all) (hsame : SameF ref (T k).1 (T k).2.1 (T k).2.2.1) (hv : fs[k]? = some v) (hd : decode cc pc = .ok (.getfield index, 3)) (kk : Z g x nL (pc + 3) L (v :: st) w kc ks) : Z g x nL pc L (.ref a :: st) w kc ks := by
  obtain ⟨p, e, R, s, m, args, below, meth, c, Q⟩ := x
  obtain ⟨hx, hb, hml, hown, hts, hK, hlk, hret, hfr, hlo, hs1, hs2⟩ := ok
  intro H locs ls cells slots h1 h2 hG hS hP
  exact va_get hx hb hts hin hown hK.k (hG.one hw) 0 rfl hc k hk (hts _ hlink) (hsame.ok hts) hv hd (kk H locs ls cells slots h1 h2 hG hS hP)
theorem Z.put {g : Gx} {x : Cx} {own : String} {cc : ByteArray} {nL lv : Nat} {ret : Option FieldType} {pc : Nat} {L : List (Option Value)} {st : List Value} {w : Wd} {kc ks : Nat} {ref C : String} {T : u_T} {N ci index a t : Nat} {fs : List Value} {v : Value} {ty0 : Nat → FieldType} (ok : OK g x own cc nL lv ret) (hw : w a = some (ob ci fs, t)) (ht : t ≠ 0) (hc : clA[ci]? = some (C, T, N)) (hin : ∀ q ∈ u_ws C T N, q ∈ lw_all) (hty : ∀ k, k < N → parseFieldDescriptor (T k).2.2.1 = some (ty0 k)) (hnm : ∀ a, a < N → ∀ b, b < N → a ≠ b → (T a).2.1 ≠ (T b).2.1) (k : Nat) (hk : k < N) (hlink : Cond.fieldLink own index ref (T k).2.1 (T k).2.2.1 ∈ lw_all) (hsame : SameF ref (T k).1 (T k).2.1 (T k).2.2.1) (hfin : (T k).2.2.2 = false) (hv : okV (ty0 k) v) (hl : fs.length = N) (hd : decode cc pc = .ok (.putfield index, 3)) (kk : Z g x nL (pc + 3) L st (wset w a (ob ci (fs.set k v)) t) kc ks) : Z g x nL pc L (v :: .ref a :: st) w kc ks := by
  obtain ⟨p, e, R, s, m, args, below, meth, c, Q⟩ := x
  obtain ⟨hx, hb, hml, hown, hts, hK, hlk, hret, hfr, hlo, hs1, hs2⟩ := ok
  intro H locs ls cells slots h1 h2 hG hS hP
  have hK := hK.k
  have hA := hG.up hw ht
  have hl : k < fs.length := by omega
  have hap := va_apart (own := own) hts hin ty0 hty hnm hK hc
  obtain ⟨r, g1, cell, q1, q2, q3, q4⟩ := (hG.1 a _ _ hw).1
  have hr : r = (C, T, N) := Option.some.inj (g1.symm.trans hc)
  subst hr
  obtain ⟨hSl, hfc, kC, hkC, hkind⟩ := hK.1 ci _ hc
  obtain ⟨cf, kf, fi, f, hi, hsl⟩ := hSl k hk
  have hlay := hts _ (hin _ (u_in_lay hk))
  unfold u_lay at hlay
  rw [if_neg (by rw [hfin]; decide)] at hlay
  have hst := (u_facts hfc hkC (u_lays hts hin hk) hi).1
  have h6 := u_store hfc hkC hkind hlay hi (hty k hk) hv.1 hv.2
  refine W.putK hx hb (f := f) ⟨hown, hts _ hlink, ⟨_, _, _, hsame.ok hts _ hi⟩, hst⟩ (by rw [q2]; exact h6) q1 q3 (by rw [hsl]; exact k2_hasslot (q4 k hk)) rfl rfl hd fun H' e1 e2 e3 => ?_
  rw [hsl] at e1 ⊢
  exact kk H' _ ls cells slots h1 h2 (hG.set hA e2 e3 ⟨_, hc, t_OB.to (V := updV (vp_V fs) k v) ⟨_, e1, q2, q3, t_set q4 hap hk v⟩ (fun j _ => vp_updV_set hl v j)⟩) (hS.put e2 e3 hA) hP
/-- the method's name -/
def NameIs (x : Cx) (nm : String) : Prop := x.2.2.2.2.2.2.2.1.name = nm
theorem Z.putF {g : Gx} {x : Cx} {own : String} {cc : ByteArray} {nL lv : Nat} {ret : Option FieldType} {pc : Nat} {L : List (Option Value)} {st : List Value} {w : Wd} {kc ks : Nat} {ref C : String} {T : u_T} {N ci index a t : Nat} {fs : List Value} {v : Value} {ty0 : Nat → FieldType} (ok : OK g x own cc nL lv ret) (hw : w a = some (ob ci fs, t)) (ht : t ≠ 0) (hc : clA[ci]? = some (C, T, N)) (hin : ∀ q ∈ u_ws C T N, q ∈ lw_all) (hty : ∀ k, k < N → parseFieldDescriptor (T k).2.2.1 = some (ty0 k)) (hnm : ∀ a, a < N → ∀ b, b < N → a ≠ b → (T a).2.1 ≠ (T b).2.1) (k : Nat) (hk : k < N) (hlink : Cond.fieldLink own index ref (T k).2.1 (T k).2.2.1 ∈ lw_all) (hsame : SameF ref (T k).1 (T k).2.1 (T k).2.2.1) (hfin : (T k).2.2.2 = true) (hin2 : NameIs x "<init>") (hdecl : (T k).1 = own) (hv : okV (ty0 k) v) (hl : fs.length = N) (hd : decode cc pc = .ok (.putfield index, 3)) (kk : Z g x nL (pc + 3) L st (wset w a (ob ci (fs.set k v)) t) kc ks) : Z g x nL pc L (v :: .ref a :: st) w kc ks := by
  obtain ⟨p, e, R, s, m, args, below, meth, c, Q⟩ := x
  obtain ⟨hx, hb, hml, hown, hts, hK, hlk, hret, hfr, hlo, hs1, hs2⟩ := ok
  intro H locs ls cells slots h1 h2 hG hS hP
  have hK := hK.k
  have hA := hG.up hw ht
  have hin2 : meth.name = "<init>" := hin2
  have hl : k < fs.length := by omega
  have hap := va_apart (own := own) hts hin ty0 hty hnm hK hc
  obtain ⟨r, g1, cell, q1, q2, q3, q4⟩ := (hG.1 a _ _ hw).1
  have hr : r = (C, T, N) := Option.some.inj (g1.symm.trans hc)
  subst hr
  obtain ⟨hSl, hfc, kC, hkC, hkind⟩ := hK.1 ci _ hc
  obtain ⟨cf, kf, fi, f, hi, hsl⟩ := hSl k hk
  have hlay := hts _ (hin _ (u_in_lay hk))
  unfold u_lay at hlay
  rw [if_pos hfin] at hlay
  have hst := (u_facts hfc hkC (u_lays hts hin hk) hi).1
  have hcf : m.cls = cf := by
    obtain ⟨_, _, c', _, _, _, -, -, hf', -, -, -, hown2, -⟩ := Cond.laysFinal_spec hlay
    have e1 : c' = cf := by have := hi.symm.trans hf'; simp at this; exact this.1.symm
    rw [hdecl] at hown2
    rw [← e1]; exact Option.some.inj (hown.symm.trans hown2)
  have h6 := u_fits hfc hkC hkind (Or.inr hlay) hi (hty k hk) hv.1 hv.2
  refine W.putFinK hx hb hown (hts _ hlink) (hsame.ok hts _ hi) hst hcf hin2 (by rw [q2]; exact h6) q1 q3 (by rw [hsl]; exact k2_hasslot (q4 k hk)) rfl rfl hd fun H' e1 e2 e3 => ?_
  rw [hsl] at e1 ⊢
  exact kk H' _ ls cells slots h1 h2 (hG.set hA e2 e3 ⟨_, hc, t_OB.to (V := updV (vp_V fs) k v) ⟨_, e1, q2, q3, t_set q4 hap hk v⟩ (fun j _ => vp_updV_set hl v j)⟩) (hS.put e2 e3 hA) hP
theorem Z.new {g : Gx} {x : Cx} {own : String} {cc : ByteArray} {nL lv : Nat} {ret : Option FieldType} {pc : Nat} {L : List (Option Value)} {st : List Value} {w : Wd} {kc ks : Nat} {C : String} {T : u_T} {N ci index kc' ks' : Nat} {fs : List Value} {ty : Nat → FieldType} (t : Nat) (ok : OK g x own cc nL lv ret) (hc : clA[ci]? = some (C, T, N)) (hin : ∀ q ∈ u_ws C T N, q ∈ lw_all) (hty : ∀ k, k < N → parseFieldDescriptor (T k).2.2.1 = some (ty k)) (hcl : Cond.classLink own index C ∈ lw_all) (hinst : Cond.instantiable C N ∈ lw_all) (hini : Cond.initialized C ∈ lw_all) (hfs : ∀ j, j < N → defaultValue (ty j) = vp_V fs j) (hkc : kc' + 1 ≤ kc) (hks : ks' + N ≤ ks) (hd : decode cc pc = .ok (.new index, 3)) (kk : ∀ q : Nat, w q = none → AA g q → Z g x nL (pc + 3) L (.ref q :: st) (wset w q (ob ci fs) t) kc' ks') : Z g x nL pc L st w kc ks := by
  obtain ⟨p, e, R, s, m, args, below, meth, c, Q⟩ := x
  obtain ⟨hx, hb, hml, hown, hts, hK, hlk, hret, hfr, hlo, hs1, hs2⟩ := ok
  intro H locs ls cells slots h1 h2 hG hS hP
  have hKn := hK.k.1 ci _ hc
  refine W.newcK hx hb hown (hts _ hcl) (hts _ hinst) (hts _ hini) rfl hd (by omega) (by omega) hKn.2.1 rfl fun H1 kC hkC e1 z1 o1 => ?_
  obtain ⟨hG1, hn⟩ := hG.new (H1 := H1) (e := ob ci fs) (t := t) z1 o1 ⟨_, hc, (u_born ty hts hin hKn hkC e1 hty).to hfs⟩
  exact kk H.size hn hG.2.1 H1 locs ls (cells + 1) (slots + N) (by omega) (by omega) hG1 ⟨Nat.le_trans hS.1 (by omega), fun q a1 a2 => (o1 q (Nat.lt_of_lt_of_le a1 hS.1)).trans (hS.2.1 q a1 a2), hS.2.2⟩ hP

theorem Z.iald {g : Gx} {x : Cx} {own : String} {cc : ByteArray} {nL lv : Nat} {ret : Option FieldType} {pc : Nat} {L : List (Option Value)} {st : List Value} {w : Wd} {kc ks : Nat} {a t n : Nat} {f : Nat → Int32} {i : Int32} (ok : OK g x own cc nL lv ret) (hw : w a = some (eI g n f, t)) (hin : vp_in i n) (hd : decode cc pc = .ok (.iaload, 1)) (kk : Z g x nL (pc + 1) L (.int (f i.toNatClampNeg) :: st) w kc ks) : Z g x nL pc L (.int i :: .ref a :: st) w kc ks := by
  obtain ⟨p, e, R, s, m, args, below, meth, c, Q⟩ := x
  obtain ⟨hx, hb, hml, hown, hts, hK, hlk, hret, hfr, hlo, hs1, hs2⟩ := ok
  intro H locs ls cells slots h1 h2 hG hS hP
  have hlt : i.toNatClampNeg < n := Nat.not_le.mp fun q => hin (Or.inr q)
  exact W.iald (v := .int (f i.toNatClampNeg)) hx hb (hG.one hw 0 _ rfl) ((hK.k.2 0 _ rfl).1 n (fun j => .int (f j))) (fun q => by cases q) (by show ¬ (i < 0 ∨ (arrV _ _ _).slots.size ≤ _); rw [arrV_size]; exact hin) (by show (arrV _ _ _).slots[_]? = _; rw [arrV_read _ _ hlt]) rfl rfl hd (kk H locs ls cells slots h1 h2 hG hS hP)
theorem Z.zald {g : Gx} {x : Cx} {own : String} {cc : ByteArray} {nL lv : Nat} {ret : Option FieldType} {pc : Nat} {L : List (Option Value)} {st : List Value} {w : Wd} {kc ks : Nat} {a t n : Nat} {f : Nat → Int32} {i : Int32} (ok : OK g x own cc nL lv ret) (hw : w a = some (eZ g n f, t)) (hin : vp_in i n) (hd : decode cc pc = .ok (.baload, 1)) (kk : Z g x nL (pc + 1) L (.int (f i.toNatClampNeg) :: st) w kc ks) : Z g x nL pc L (.int i :: .ref a :: st) w kc ks := by
  obtain ⟨p, e, R, s, m, args, below, meth, c, Q⟩ := x
  obtain ⟨hx, hb, hml, hown, hts, hK, hlk, hret, hfr, hlo, hs1, hs2⟩ := ok
  intro H locs ls cells slots h1 h2 hG hS hP
  have hlt : i.toNatClampNeg < n := Nat.not_le.mp fun q => hin (Or.inr q)
  exact W.zald (v := .int (f i.toNatClampNeg)) hx hb (hG.one hw 0 _ rfl) ((hK.k.2 1 _ rfl).1 n (fun j => .int (f j))) (fun q => by cases q) (by show ¬ (i < 0 ∨ (arrV _ _ _).slots.size ≤ _); rw [arrV_size]; exact hin) (by show (arrV _ _ _).slots[_]? = _; rw [arrV_read _ _ hlt]) rfl rfl hd (kk H locs ls cells slots h1 h2 hG hS hP)
theorem Z.bald {g : Gx} {x : Cx} {own : String} {cc : ByteArray} {nL lv : Nat} {ret : Option FieldType} {pc : Nat} {L : List (Option Value)} {st : List Value} {w : Wd} {kc ks : Nat} {a t n : Nat} {f : Nat → Int32} {i : Int32} (ok : OK g x own cc nL lv ret) (hw : w a = some (eB g n f, t)) (hin : vp_in i n) (hd : decode cc pc = .ok (.baload, 1)) (kk : Z g x nL (pc + 1) L (.int (f i.toNatClampNeg) :: st) w kc ks) : Z g x nL pc L (.int i :: .ref a :: st) w kc ks := by
  obtain ⟨p, e, R, s, m, args, below, meth, c, Q⟩ := x
  obtain ⟨hx, hb, hml, hown, hts, hK, hlk, hret, hfr, hlo, hs1, hs2⟩ := ok
  intro H locs ls cells slots h1 h2 hG hS hP
  have hlt : i.toNatClampNeg < n := Nat.not_le.mp fun q => hin (Or.inr q)
  exact W.bald (v := .int (f i.toNatClampNeg)) hx hb (hG.one hw 0 _ rfl) ((hK.k.2 2 _ rfl).1 n (fun j => .int (f j))) (fun q => by cases q) (by show ¬ (i < 0 ∨ (arrV _ _ _).slots.size ≤ _); rw [arrV_size]; exact hin) (by show (arrV _ _ _).slots[_]? = _; rw [arrV_read _ _ hlt]) rfl rfl hd (kk H locs ls cells slots h1 h2 hG hS hP)
theorem Z.lald {g : Gx} {x : Cx} {own : String} {cc : ByteArray} {nL lv : Nat} {ret : Option FieldType} {pc : Nat} {L : List (Option Value)} {st : List Value} {w : Wd} {kc ks : Nat} {a t n : Nat} {f : Nat → Int64} {i : Int32} (ok : OK g x own cc nL lv ret) (hw : w a = some (eJ g n f, t)) (hin : vp_in i n) (hd : decode cc pc = .ok (.laload, 1)) (kk : Z g x nL (pc + 1) L (.long (f i.toNatClampNeg) :: st) w kc ks) : Z g x nL pc L (.int i :: .ref a :: st) w kc ks := by
  obtain ⟨p, e, R, s, m, args, below, meth, c, Q⟩ := x
  obtain ⟨hx, hb, hml, hown, hts, hK, hlk, hret, hfr, hlo, hs1, hs2⟩ := ok
  intro H locs ls cells slots h1 h2 hG hS hP
  have hlt : i.toNatClampNeg < n := Nat.not_le.mp fun q => hin (Or.inr q)
  exact W.lald (v := .long (f i.toNatClampNeg)) hx hb (hG.one hw 0 _ rfl) ((hK.k.2 3 _ rfl).1 n (fun j => .long (f j))) (fun q => by cases q) (by show ¬ (i < 0 ∨ (arrV _ _ _).slots.size ≤ _); rw [arrV_size]; exact hin) (by show (arrV _ _ _).slots[_]? = _; rw [arrV_read _ _ hlt]) rfl rfl hd (kk H locs ls cells slots h1 h2 hG hS hP)
theorem Z.oald {g : Gx} {x : Cx} {own : String} {cc : ByteArray} {nL lv : Nat} {ret : Option FieldType} {pc : Nat} {L : List (Option Value)} {st : List Value} {w : Wd} {kc ks : Nat} {a t n : Nat} {f : Nat → Option Nat} {i : Int32} (ok : OK g x own cc nL lv ret) (hw : w a = some (eO g n f, t)) (hin : vp_in i n) (hd : decode cc pc = .ok (.aaload, 1)) (kk : Z g x nL (pc + 1) L (va_rf (f i.toNatClampNeg) :: st) w kc ks) : Z g x nL pc L (.int i :: .ref a :: st) w kc ks := by
  obtain ⟨p, e, R, s, m, args, below, meth, c, Q⟩ := x
  obtain ⟨hx, hb, hml, hown, hts, hK, hlk, hret, hfr, hlo, hs1, hs2⟩ := ok
  intro H locs ls cells slots h1 h2 hG hS hP
  exact va_aldq hx hb hK.k (hG.one hw) 0 4 rfl rfl hin hd (kk H locs ls cells slots h1 h2 hG hS hP)
theorem Z.nald {g : Gx} {x : Cx} {own : String} {cc : ByteArray} {nL lv : Nat} {ret : Option FieldType} {pc : Nat} {L : List (Option Value)} {st : List Value} {w : Wd} {kc ks : Nat} {a t n : Nat} {f : Nat → Option Nat} {i : Int32} (ok : OK g x own cc nL lv ret) (hw : w a = some (eN g n f, t)) (hin : vp_in i n) (hd : decode cc pc = .ok (.aaload, 1)) (kk : Z g x nL (pc + 1) L (va_rf (f i.toNatClampNeg) :: st) w kc ks) : Z g x nL pc L (.int i :: .ref a :: st) w kc ks := by
  obtain ⟨p, e, R, s, m, args, below, meth, c, Q⟩ := x
  obtain ⟨hx, hb, hml, hown, hts, hK, hlk, hret, hfr, hlo, hs1, hs2⟩ := ok
  intro H locs ls cells slots h1 h2 hG hS hP
  exact va_aldq hx hb hK.k (hG.one hw) 0 5 rfl rfl hin hd (kk H locs ls cells slots h1 h2 hG hS hP)
theorem Z.iast {g : Gx} {x : Cx} {own : String} {cc : ByteArray} {nL lv : Nat} {ret : Option FieldType} {pc : Nat} {L : List (Option Value)} {st : List Value} {w : Wd} {kc ks : Nat} {a t n : Nat} {f : Nat → Int32} {i : Int32} {v : Int32} (ok : OK g x own cc nL lv ret) (hw : w a = some (eI g n f, t)) (ht : t ≠ 0) (hin : vp_in i n) (hd : decode cc pc = .ok (.iastore, 1)) (kk : Z g x nL (pc + 1) L st (wset w a (eI g n (upd f i.toNatClampNeg v)) t) kc ks) : Z g x nL pc L (.int v :: .int i :: .ref a :: st) w kc ks := by
  obtain ⟨p, e, R, s, m, args, below, meth, c, Q⟩ := x
  obtain ⟨hx, hb, hml, hown, hts, hK, hlk, hret, hfr, hlo, hs1, hs2⟩ := ok
  intro H locs ls cells slots h1 h2 hG hS hP
  have hA := hG.up hw ht
  refine W.iast hx hb (hG.one hw 0 _ rfl) ((hK.k.2 0 _ rfl).1 n (fun j => .int (f j))) (fun q => by cases q) (by show ¬ (i < 0 ∨ (arrV _ _ _).slots.size ≤ _); rw [arrV_size]; exact hin) rfl rfl hd fun H1 e z oq => ?_
  refine kk H1 _ ls cells slots h1 h2 (hG.set hA z oq ?_) (hS.put z oq hA) hP
  show H1[a]? = some (vp_cell _ _)
  rw [e]
  rw [vp_cell_i, vp_cell_i, arrV_store]
  congr 2
  funext q
  by_cases hq : q = i.toNatClampNeg
  · subst hq
    simp [updV, upd]
    try rfl
  · simp [updV, upd, hq]
theorem Z.zast {g : Gx} {x : Cx} {own : String} {cc : ByteArray} {nL lv : Nat} {ret : Option FieldType} {pc : Nat} {L : List (Option Value)} {st : List Value} {w : Wd} {kc ks : Nat} {a t n : Nat} {f : Nat → Int32} {i : Int32} {v : Int32} (ok : OK g x own cc nL lv ret) (hw : w a = some (eZ g n f, t)) (ht : t ≠ 0) (hin : vp_in i n) (hd : decode cc pc = .ok (.bastore, 1)) (kk : Z g x nL (pc + 1) L st (wset w a (eZ g n (upd f i.toNatClampNeg (vp_nar .boolean v))) t) kc ks) : Z g x nL pc L (.int v :: .int i :: .ref a :: st) w kc ks := by
  obtain ⟨p, e, R, s, m, args, below, meth, c, Q⟩ := x
  obtain ⟨hx, hb, hml, hown, hts, hK, hlk, hret, hfr, hlo, hs1, hs2⟩ := ok
  intro H locs ls cells slots h1 h2 hG hS hP
  have hA := hG.up hw ht
  refine W.zast hx hb (hG.one hw 0 _ rfl) ((hK.k.2 1 _ rfl).1 n (fun j => .int (f j))) (fun q => by cases q) (by show ¬ (i < 0 ∨ (arrV _ _ _).slots.size ≤ _); rw [arrV_size]; exact hin) rfl rfl hd fun H1 e z oq => ?_
  refine kk H1 _ ls cells slots h1 h2 (hG.set hA z oq ?_) (hS.put z oq hA) hP
  show H1[a]? = some (vp_cell _ _)
  rw [e]
  rw [vp_cell_i, vp_cell_i, arrV_store]
  congr 2
  funext q
  by_cases hq : q = i.toNatClampNeg
  · subst hq
    simp [updV, upd, vp_nar]
    try rfl
  · simp [updV, upd, vp_nar, hq]
theorem Z.bast {g : Gx} {x : Cx} {own : String} {cc : ByteArray} {nL lv : Nat} {ret : Option FieldType} {pc : Nat} {L : List (Option Value)} {st : List Value} {w : Wd} {kc ks : Nat} {a t n : Nat} {f : Nat → Int32} {i : Int32} {v : Int32} (ok : OK g x own cc nL lv ret) (hw : w a = some (eB g n f, t)) (ht : t ≠ 0) (hin : vp_in i n) (hd : decode cc pc = .ok (.bastore, 1)) (kk : Z g x nL (pc + 1) L st (wset w a (eB g n (upd f i.toNatClampNeg (vp_nar .byte v))) t) kc ks) : Z g x nL pc L (.int v :: .int i :: .ref a :: st) w kc ks := by
  obtain ⟨p, e, R, s, m, args, below, meth, c, Q⟩ := x
  obtain ⟨hx, hb, hml, hown, hts, hK, hlk, hret, hfr, hlo, hs1, hs2⟩ := ok
  intro H locs ls cells slots h1 h2 hG hS hP
  have hA := hG.up hw ht
  refine W.bast hx hb (hG.one hw 0 _ rfl) ((hK.k.2 2 _ rfl).1 n (fun j => .int (f j))) (fun q => by cases q) (by show ¬ (i < 0 ∨ (arrV _ _ _).slots.size ≤ _); rw [arrV_size]; exact hin) rfl rfl hd fun H1 e z oq => ?_
  refine kk H1 _ ls cells slots h1 h2 (hG.set hA z oq ?_) (hS.put z oq hA) hP
  show H1[a]? = some (vp_cell _ _)
  rw [e]
  rw [vp_cell_i, vp_cell_i, arrV_store]
  congr 2
  funext q
  by_cases hq : q = i.toNatClampNeg
  · subst hq
    simp [updV, upd, vp_nar]
    try rfl
  · simp [updV, upd, vp_nar, hq]
theorem Z.last {g : Gx} {x : Cx} {own : String} {cc : ByteArray} {nL lv : Nat} {ret : Option FieldType} {pc : Nat} {L : List (Option Value)} {st : List Value} {w : Wd} {kc ks : Nat} {a t n : Nat} {f : Nat → Int64} {i : Int32} {v : Int64} (ok : OK g x own cc nL lv ret) (hw : w a = some (eJ g n f, t)) (ht : t ≠ 0) (hin : vp_in i n) (hd : decode cc pc = .ok (.lastore, 1)) (kk : Z g x nL (pc + 1) L st (wset w a (eJ g n (vp_updL f i.toNatClampNeg v)) t) kc ks) : Z g x nL pc L (.long v :: .int i :: .ref a :: st) w kc ks := by
  obtain ⟨p, e, R, s, m, args, below, meth, c, Q⟩ := x
  obtain ⟨hx, hb, hml, hown, hts, hK, hlk, hret, hfr, hlo, hs1, hs2⟩ := ok
  intro H locs ls cells slots h1 h2 hG hS hP
  have hA := hG.up hw ht
  refine W.last hx hb (hG.one hw 0 _ rfl) ((hK.k.2 3 _ rfl).1 n (fun j => .long (f j))) (fun q => by cases q) (by show ¬ (i < 0 ∨ (arrV _ _ _).slots.size ≤ _); rw [arrV_size]; exact hin) rfl rfl hd fun H1 e z oq => ?_
  refine kk H1 _ ls cells slots h1 h2 (hG.set hA z oq ?_) (hS.put z oq hA) hP
  show H1[a]? = some (vp_cell _ _)
  rw [e]
  rw [vp_cell_l, vp_cell_l, arrV_store]
  congr 2
  funext q
  by_cases hq : q = i.toNatClampNeg
  · subst hq
    simp [updV, vp_updL]
    try rfl
  · simp [updV, vp_updL, hq]
/-- an object of a class that may stand there -/
theorem Z.oast {g : Gx} {x : Cx} {own : String} {cc : ByteArray} {nL lv : Nat} {ret : Option FieldType} {pc : Nat} {L : List (Option Value)} {st : List Value} {w : Wd} {kc ks : Nat} {a t n v ci tv : Nat} {vs : List Value} {r : vw_C} {f : Nat → Option Nat} {i : Int32} (ok : OK g x own cc nL lv ret) (hw : w a = some (eO g n f, t)) (ht : t ≠ 0) (hv : w v = some (ob ci vs, tv)) (hc : clA[ci]? = some r) (hca : r.1 = "java/lang/Object" ∨ Cond.castable r.1 "java/lang/Object" ∈ lw_tbl) (hin : vp_in i n) (hd : decode cc pc = .ok (.aastore, 1)) (kk : Z g x nL (pc + 1) L st (wset w a (eO g n (va_up f i.toNatClampNeg (some v))) t) kc ks) : Z g x nL pc L (.ref v :: .int i :: .ref a :: st) w kc ks := by
  obtain ⟨p, e, R, s, m, args, below, meth, c, Q⟩ := x
  obtain ⟨hx, hb, hml, hown, hts, hK, hlk, hret, hfr, hlo, hs1, hs2⟩ := ok
  intro H locs ls cells slots h1 h2 hG hS hP
  have hA := hG.up hw ht
  have hlt : i.toNatClampNeg < n := Nat.not_le.mp fun q => hin (Or.inr q)
  have h0 : ¬ i < 0 := fun q => hin (Or.inl q)
  obtain ⟨r', hr', cellV, g1, g2, g3, -⟩ := (hG.1 v _ _ hv).1
  have hcls := (hK.k.1 ci r hc).2
  obtain ⟨kA, comp, k1, k2, k3, -⟩ := (hK.k.2 4 _ rfl).2
  obtain ⟨kE, hkE, -⟩ := Vm.findClass_spec k3
  obtain ⟨kC, hkC, -⟩ := hcls.2
  have f3 : s.vm.assignable ((gD g).1 ci) comp = true := by
    rcases hca with hca | hca
    · rw [← hca] at k3
      cases hcls.1.symm.trans k3
      exact va_assign hcls
    · obtain ⟨c0, t1, f1, f2, f3⟩ := Cond.castable_spec (va_Nw.use (A := args) rfl (hK.2.2.2.1 _ _ hca))
      cases hcls.1.symm.trans f1
      cases k3.symm.trans f2
      exact f3
  refine W.aast hx hb (hG.one hw 0 _ rfl) (fun q h => by cases h) (fun h => by cases h) k1 k2 rfl hkE ⟨h0, by show _ < (arrV _ _ _).slots.size; rw [arrV_size]; exact hlt⟩ g1 (fun q h => by rw [g3] at h; cases h) (by rw [g2]; exact hkC) (by rw [g2]; exact f3) rfl rfl hd fun H1 e z oq => ?_
  refine kk H1 _ ls cells slots h1 h2 (hG.set hA z oq ?_) (hS.put z oq hA) hP
  show H1[a]? = some (vp_cell _ _)
  rw [e]
  rw [vp_cell_q, vp_cell_q, arrV_store]
  congr 2
  funext q
  by_cases hq : q = i.toNatClampNeg
  · subst hq
    simp [updV, va_up, va_rf]
  · simp [updV, va_up, hq]
theorem Z.oastN {g : Gx} {x : Cx} {own : String} {cc : ByteArray} {nL lv : Nat} {ret : Option FieldType} {pc : Nat} {L : List (Option Value)} {st : List Value} {w : Wd} {kc ks : Nat} {a t n : Nat} {f : Nat → Option Nat} {i : Int32} (ok : OK g x own cc nL lv ret) (hw : w a = some (eO g n f, t)) (ht : t ≠ 0) (hin : vp_in i n) (hd : decode cc pc = .ok (.aastore, 1)) (kk : Z g x nL (pc + 1) L st (wset w a (eO g n (va_up f i.toNatClampNeg none)) t) kc ks) : Z g x nL pc L (.null :: .int i :: .ref a :: st) w kc ks := by
  obtain ⟨p, e, R, s, m, args, below, meth, c, Q⟩ := x
  obtain ⟨hx, hb, hml, hown, hts, hK, hlk, hret, hfr, hlo, hs1, hs2⟩ := ok
  intro H locs ls cells slots h1 h2 hG hS hP
  have hA := hG.up hw ht
  refine va_WaastN (C := "java/lang/Object") hx hb (hG.one hw 0 _ rfl) ((hK.k.2 4 _ rfl).1 n (fun j => va_rf (f j))) (fun h => by cases h) (by show ¬ (i < 0 ∨ (arrV _ _ _).slots.size ≤ _); rw [arrV_size]; exact hin) rfl rfl hd fun H1 e z oq => ?_
  refine kk H1 _ ls cells slots h1 h2 (hG.set hA z oq ?_) (hS.put z oq hA) hP
  show H1[a]? = some (vp_cell _ _)
  rw [e]
  rw [vp_cell_q, vp_cell_q, arrV_store]
  congr 2
  funext q
  by_cases hq : q = i.toNatClampNeg
  · subst hq
    simp [updV, va_up, va_rf]
  · simp [updV, va_up, hq]
/-- an object of a class that may stand there -/
theorem Z.nast {g : Gx} {x : Cx} {own : String} {cc : ByteArray} {nL lv : Nat} {ret : Option FieldType} {pc : Nat} {L : List (Option Value)} {st : List Value} {w : Wd} {kc ks : Nat} {a t n v ci tv : Nat} {vs : List Value} {r : vw_C} {f : Nat → Option Nat} {i : Int32} (ok : OK g x own cc nL lv ret) (hw : w a = some (eN g n f, t)) (ht : t ≠ 0) (hv : w v = some (ob ci vs, tv)) (hc : clA[ci]? = some r) (hca : r.1 = "java/util/HashMap$Node" ∨ Cond.castable r.1 "java/util/HashMap$Node" ∈ lw_tbl) (hin : vp_in i n) (hd : decode cc pc = .ok (.aastore, 1)) (kk : Z g x nL (pc + 1) L st (wset w a (eN g n (va_up f i.toNatClampNeg (some v))) t) kc ks) : Z g x nL pc L (.ref v :: .int i :: .ref a :: st) w kc ks := by
  obtain ⟨p, e, R, s, m, args, below, meth, c, Q⟩ := x
  obtain ⟨hx, hb, hml, hown, hts, hK, hlk, hret, hfr, hlo, hs1, hs2⟩ := ok
  intro H locs ls cells slots h1 h2 hG hS hP
  have hA := hG.up hw ht
  have hlt : i.toNatClampNeg < n := Nat.not_le.mp fun q => hin (Or.inr q)
  have h0 : ¬ i < 0 := fun q => hin (Or.inl q)
  obtain ⟨r', hr', cellV, g1, g2, g3, -⟩ := (hG.1 v _ _ hv).1
  have hcls := (hK.k.1 ci r hc).2
  obtain ⟨kA, comp, k1, k2, k3, -⟩ := (hK.k.2 5 _ rfl).2
  obtain ⟨kE, hkE, -⟩ := Vm.findClass_spec k3
  obtain ⟨kC, hkC, -⟩ := hcls.2
  have f3 : s.vm.assignable ((gD g).1 ci) comp = true := by
    rcases hca with hca | hca
    · rw [← hca] at k3
      cases hcls.1.symm.trans k3
      exact va_assign hcls
    · obtain ⟨c0, t1, f1, f2, f3⟩ := Cond.castable_spec (va_Nw.use (A := args) rfl (hK.2.2.2.1 _ _ hca))
      cases hcls.1.symm.trans f1
      cases k3.symm.trans f2
      exact f3
  refine W.aast hx hb (hG.one hw 0 _ rfl) (fun q h => by cases h) (fun h => by cases h) k1 k2 rfl hkE ⟨h0, by show _ < (arrV _ _ _).slots.size; rw [arrV_size]; exact hlt⟩ g1 (fun q h => by rw [g3] at h; cases h) (by rw [g2]; exact hkC) (by rw [g2]; exact f3) rfl rfl hd fun H1 e z oq => ?_
  refine kk H1 _ ls cells slots h1 h2 (hG.set hA z oq ?_) (hS.put z oq hA) hP
  show H1[a]? = some (vp_cell _ _)
  rw [e]
  rw [vp_cell_q, vp_cell_q, arrV_store]
  congr 2
  funext q
  by_cases hq : q = i.toNatClampNeg
  · subst hq
    simp [updV, va_up, va_rf]
  · simp [updV, va_up, hq]
theorem Z.nastN {g : Gx} {x : Cx} {own : String} {cc : ByteArray} {nL lv : Nat} {ret : Option FieldType} {pc : Nat} {L : List (Option Value)} {st : List Value} {w : Wd} {kc ks : Nat} {a t n : Nat} {f : Nat → Option Nat} {i : Int32} (ok : OK g x own cc nL lv ret) (hw : w a = some (eN g n f, t)) (ht : t ≠ 0) (hin : vp_in i n) (hd : decode cc pc = .ok (.aastore, 1)) (kk : Z g x nL (pc + 1) L st (wset w a (eN g n (va_up f i.toNatClampNeg none)) t) kc ks) : Z g x nL pc L (.null :: .int i :: .ref a :: st) w kc ks := by
  obtain ⟨p, e, R, s, m, args, below, meth, c, Q⟩ := x
  obtain ⟨hx, hb, hml, hown, hts, hK, hlk, hret, hfr, hlo, hs1, hs2⟩ := ok
  intro H locs ls cells slots h1 h2 hG hS hP
  have hA := hG.up hw ht
  refine va_WaastN (C := "java/util/HashMap$Node") hx hb (hG.one hw 0 _ rfl) ((hK.k.2 5 _ rfl).1 n (fun j => va_rf (f j))) (fun h => by cases h) (by show ¬ (i < 0 ∨ (arrV _ _ _).slots.size ≤ _); rw [arrV_size]; exact hin) rfl rfl hd fun H1 e z oq => ?_
  refine kk H1 _ ls cells slots h1 h2 (hG.set hA z oq ?_) (hS.put z oq hA) hP
  show H1[a]? = some (vp_cell _ _)
  rw [e]
  rw [vp_cell_q, vp_cell_q, arrV_store]
  congr 2
  funext q
  by_cases hq : q = i.toNatClampNeg
  · subst hq
    simp [updV, va_up, va_rf]
  · simp [updV, va_up, hq]
theorem Z.alen {g : Gx} {x : Cx} {own : String} {cc : ByteArray} {nL lv : Nat} {ret : Option FieldType} {pc : Nat} {L : List (Option Value)} {st : List Value} {w : Wd} {kc ks : Nat} {a t k0 : Nat} {xA : vp_A} {ty : FieldType} (ok : OK g x own cc nL lv ret) (hw : w a = some (.inl (gA g k0, xA), t)) (ht : (tyA g)[k0]? = some (gA g k0, ty)) (hd : decode cc pc = .ok (.arraylength, 1)) (kk : Z g x nL (pc + 1) L (.int (nI xA.1) :: st) w kc ks) : Z g x nL pc L (.ref a :: st) w kc ks := by
  obtain ⟨p, e, R, s, m, args, below, meth, c, Q⟩ := x
  obtain ⟨hx, hb, hml, hown, hts, hK, hlk, hret, hfr, hlo, hs1, hs2⟩ := ok
  intro H locs ls cells slots h1 h2 hG hS hP
  exact va_alen hx hb hK.k (hG.one hw) 0 k0 rfl ht rfl hd (kk H locs ls cells slots h1 h2 hG hS hP)
theorem Z.newI {g : Gx} {x : Cx} {own : String} {cc : ByteArray} {nL lv : Nat} {ret : Option FieldType} {pc : Nat} {L : List (Option Value)} {st : List Value} {w : Wd} {kc ks : Nat} {n : Int32} {N kc' ks' : Nat} (t : Nat) (ok : OK g x own cc nL lv ret) (harr : Cond.arrayClass (newarray.typeOf .int) ∈ lw_all) (hn : ¬ n < 0) (hN : n.toNatClampNeg = N) (hbytes : N * componentBytes (newarray.typeOf .int) ≤ 536870912) (hkc : kc' + 1 ≤ kc) (hks : ks' + N ≤ ks) (hd : decode cc pc = .ok (.newarray .int, 2)) (kk : ∀ q : Nat, w q = none → AA g q → Z g x nL (pc + 2) L (.ref q :: st) (wset w q (eI g N (fun _ => 0)) t) kc' ks') : Z g x nL pc L (.int n :: st) w kc ks := by
  obtain ⟨p, e, R, s, m, args, below, meth, c, Q⟩ := x
  obtain ⟨hx, hb, hml, hown, hts, hK, hlk, hret, hfr, hlo, hs1, hs2⟩ := ok
  intro H locs ls cells slots h1 h2 hG hS hP
  refine va_newaK hx hb (hts _ harr) rfl hd rfl hn hN hbytes (by omega) (by omega) rfl fun H1 cA e1 z1 o1 hAr hNm => ?_
  have hcA : cA = gA g 0 := Option.some.inj (hNm.symm.trans (hK.k.2 0 _ rfl).2)
  subst hcA
  obtain ⟨hG1, hn1⟩ := hG.new (H1 := H1) (e := eI g N (fun _ => 0)) (t := t) z1 o1 (by show H1[H.size]? = some (vp_cell _ _); rw [vp_cell_i]; exact e1)
  exact kk H.size hn1 hG.2.1 H1 locs ls (cells + 1) (slots + N) (by omega) (by omega) hG1 ⟨Nat.le_trans hS.1 (by omega), fun q a1 a2 => (o1 q (Nat.lt_of_lt_of_le a1 hS.1)).trans (hS.2.1 q a1 a2), hS.2.2⟩ hP
theorem Z.newZ {g : Gx} {x : Cx} {own : String} {cc : ByteArray} {nL lv : Nat} {ret : Option FieldType} {pc : Nat} {L : List (Option Value)} {st : List Value} {w : Wd} {kc ks : Nat} {n : Int32} {N kc' ks' : Nat} (t : Nat) (ok : OK g x own cc nL lv ret) (harr : Cond.arrayClass (newarray.typeOf .boolean) ∈ lw_all) (hn : ¬ n < 0) (hN : n.toNatClampNeg = N) (hbytes : N * componentBytes (newarray.typeOf .boolean) ≤ 536870912) (hkc : kc' + 1 ≤ kc) (hks : ks' + N ≤ ks) (hd : decode cc pc = .ok (.newarray .boolean, 2)) (kk : ∀ q : Nat, w q = none → AA g q → Z g x nL (pc + 2) L (.ref q :: st) (wset w q (eZ g N (fun _ => 0)) t) kc' ks') : Z g x nL pc L (.int n :: st) w kc ks := by
  obtain ⟨p, e, R, s, m, args, below, meth, c, Q⟩ := x
  obtain ⟨hx, hb, hml, hown, hts, hK, hlk, hret, hfr, hlo, hs1, hs2⟩ := ok
  intro H locs ls cells slots h1 h2 hG hS hP
  refine va_newaK hx hb (hts _ harr) rfl hd rfl hn hN hbytes (by omega) (by omega) rfl fun H1 cA e1 z1 o1 hAr hNm => ?_
  have hcA : cA = gA g 1 := Option.some.inj (hNm.symm.trans (hK.k.2 1 _ rfl).2)
  subst hcA
  obtain ⟨hG1, hn1⟩ := hG.new (H1 := H1) (e := eZ g N (fun _ => 0)) (t := t) z1 o1 (by show H1[H.size]? = some (vp_cell _ _); rw [vp_cell_i]; exact e1)
  exact kk H.size hn1 hG.2.1 H1 locs ls (cells + 1) (slots + N) (by omega) (by omega) hG1 ⟨Nat.le_trans hS.1 (by omega), fun q a1 a2 => (o1 q (Nat.lt_of_lt_of_le a1 hS.1)).trans (hS.2.1 q a1 a2), hS.2.2⟩ hP
theorem Z.newB {g : Gx} {x : Cx} {own : String} {cc : ByteArray} {nL lv : Nat} {ret : Option FieldType} {pc : Nat} {L : List (Option Value)} {st : List Value} {w : Wd} {kc ks : Nat} {n : Int32} {N kc' ks' : Nat} (t : Nat) (ok : OK g x own cc nL lv ret) (harr : Cond.arrayClass (newarray.typeOf .byte) ∈ lw_all) (hn : ¬ n < 0) (hN : n.toNatClampNeg = N) (hbytes : N * componentBytes (newarray.typeOf .byte) ≤ 536870912) (hkc : kc' + 1 ≤ kc) (hks : ks' + N ≤ ks) (hd : decode cc pc = .ok (.newarray .byte, 2)) (kk : ∀ q : Nat, w q = none → AA g q → Z g x nL (pc + 2) L (.ref q :: st) (wset w q (eB g N (fun _ => 0)) t) kc' ks') : Z g x nL pc L (.int n :: st) w kc ks := by
  obtain ⟨p, e, R, s, m, args, below, meth, c, Q⟩ := x
  obtain ⟨hx, hb, hml, hown, hts, hK, hlk, hret, hfr, hlo, hs1, hs2⟩ := ok
  intro H locs ls cells slots h1 h2 hG hS hP
  refine va_newaK hx hb (hts _ harr) rfl hd rfl hn hN hbytes (by omega) (by omega) rfl fun H1 cA e1 z1 o1 hAr hNm => ?_
  have hcA : cA = gA g 2 := Option.some.inj (hNm.symm.trans (hK.k.2 2 _ rfl).2)
  subst hcA
  obtain ⟨hG1, hn1⟩ := hG.new (H1 := H1) (e := eB g N (fun _ => 0)) (t := t) z1 o1 (by show H1[H.size]? = some (vp_cell _ _); rw [vp_cell_i]; exact e1)
  exact kk H.size hn1 hG.2.1 H1 locs ls (cells + 1) (slots + N) (by omega) (by omega) hG1 ⟨Nat.le_trans hS.1 (by omega), fun q a1 a2 => (o1 q (Nat.lt_of_lt_of_le a1 hS.1)).trans (hS.2.1 q a1 a2), hS.2.2⟩ hP
theorem Z.newJ {g : Gx} {x : Cx} {own : String} {cc : ByteArray} {nL lv : Nat} {ret : Option FieldType} {pc : Nat} {L : List (Option Value)} {st : List Value} {w : Wd} {kc ks : Nat} {n : Int32} {N kc' ks' : Nat} (t : Nat) (ok : OK g x own cc nL lv ret) (harr : Cond.arrayClass (newarray.typeOf .long) ∈ lw_all) (hn : ¬ n < 0) (hN : n.toNatClampNeg = N) (hbytes : N * componentBytes (newarray.typeOf .long) ≤ 536870912) (hkc : kc' + 1 ≤ kc) (hks : ks' + N ≤ ks) (hd : decode cc pc = .ok (.newarray .long, 2)) (kk : ∀ q : Nat, w q = none → AA g q → Z g x nL (pc + 2) L (.ref q :: st) (wset w q (eJ g N (fun _ => 0)) t) kc' ks') : Z g x nL pc L (.int n :: st) w kc ks := by
  obtain ⟨p, e, R, s, m, args, below, meth, c, Q⟩ := x
  obtain ⟨hx, hb, hml, hown, hts, hK, hlk, hret, hfr, hlo, hs1, hs2⟩ := ok
  intro H locs ls cells slots h1 h2 hG hS hP
  refine va_newaK hx hb (hts _ harr) rfl hd rfl hn hN hbytes (by omega) (by omega) rfl fun H1 cA e1 z1 o1 hAr hNm => ?_
  have hcA : cA = gA g 3 := Option.some.inj (hNm.symm.trans (hK.k.2 3 _ rfl).2)
  subst hcA
  obtain ⟨hG1, hn1⟩ := hG.new (H1 := H1) (e := eJ g N (fun _ => 0)) (t := t) z1 o1 (by show H1[H.size]? = some (vp_cell _ _); rw [vp_cell_l]; exact e1)
  exact kk H.size hn1 hG.2.1 H1 locs ls (cells + 1) (slots + N) (by omega) (by omega) hG1 ⟨Nat.le_trans hS.1 (by omega), fun q a1 a2 => (o1 q (Nat.lt_of_lt_of_le a1 hS.1)).trans (hS.2.1 q a1 a2), hS.2.2⟩ hP
theorem Z.newO {g : Gx} {x : Cx} {own : String} {cc : ByteArray} {nL lv : Nat} {ret : Option FieldType} {pc : Nat} {L : List (Option Value)} {st : List Value} {w : Wd} {kc ks : Nat} {n : Int32} {N index kc' ks' : Nat} (t : Nat) (ok : OK g x own cc nL lv ret) (hcl : Cond.classLink own index "java/lang/Object" ∈ lw_all) (hov : Cond.arrayOver (.object "java/lang/Object") ∈ lw_tbl) (hn : ¬ n < 0) (hN : n.toNatClampNeg = N) (hbytes : N * 4 ≤ 536870912) (hkc : kc' + 1 ≤ kc) (hks : ks' + N ≤ ks) (hd : decode cc pc = .ok (.anewarray index, 3)) (kk : ∀ q : Nat, w q = none → AA g q → Z g x nL (pc + 3) L (.ref q :: st) (wset w q (eO g N (fun _ => none)) t) kc' ks') : Z g x nL pc L (.int n :: st) w kc ks := by
  obtain ⟨p, e, R, s, m, args, below, meth, c, Q⟩ := x
  obtain ⟨hx, hb, hml, hown, hts, hK, hlk, hret, hfr, hlo, hs1, hs2⟩ := ok
  intro H locs ls cells slots h1 h2 hG hS hP
  subst hN
  refine W.anew hx hb hown (hts _ hcl) (va_AO.use (hK.2.2.2.2.2.1 _ hov)) rfl hd rfl hn hbytes (by omega) (by omega) fun cA kA comp f1 f2 f3 f4 => ?_
  have hcA : cA = gA g 4 := by
    obtain ⟨-, kA', comp', -, -, -, b4⟩ := hK.k.2 4 _ rfl
    first | exact Option.some.inj (f1.symm.trans b4) | exact Option.some.inj (f4.symm.trans b4)
  subst hcA
  generalize hH1 : H.push ({ cls := gA g 4, slots := Array.replicate n.toNatClampNeg .null, vm := .none } : Cell) = H1
  have z1 : H1.size = H.size + 1 := by rw [← hH1, Array.size_push]
  have e1 : H1[H.size]? = some (arrV (gA g 4) n.toNatClampNeg (fun _ => .null)) := by rw [← hH1, Array.getElem?_push_size, ← arrV_new]
  have o1 : ∀ q : Nat, q < H.size → H1[q]? = H[q]? := fun q hq => by rw [← hH1, Array.getElem?_push, if_neg (Nat.ne_of_lt hq)]
  obtain ⟨hG1, hn1⟩ := hG.new (H1 := H1) (e := eO g n.toNatClampNeg (fun _ => none)) (t := t) z1 o1 (by show H1[H.size]? = some (vp_cell _ _); rw [vp_cell_q]; exact e1)
  exact kk H.size hn1 hG.2.1 H1 locs ls (cells + 1) (slots + n.toNatClampNeg) (by omega) (by omega) hG1 ⟨Nat.le_trans hS.1 (by omega), fun q a1 a2 => (o1 q (Nat.lt_of_lt_of_le a1 hS.1)).trans (hS.2.1 q a1 a2), hS.2.2⟩ hP
theorem Z.newN {g : Gx} {x : Cx} {own : String} {cc : ByteArray} {nL lv : Nat} {ret : Option FieldType} {pc : Nat} {L : List (Option Value)} {st : List Value} {w : Wd} {kc ks : Nat} {n : Int32} {N index kc' ks' : Nat} (t : Nat) (ok : OK g x own cc nL lv ret) (hcl : Cond.classLink own index "java/util/HashMap$Node" ∈ lw_all) (hov : Cond.arrayOver (.object "java/util/HashMap$Node") ∈ lw_tbl) (hn : ¬ n < 0) (hN : n.toNatClampNeg = N) (hbytes : N * 4 ≤ 536870912) (hkc : kc' + 1 ≤ kc) (hks : ks' + N ≤ ks) (hd : decode cc pc = .ok (.anewarray index, 3)) (kk : ∀ q : Nat, w q = none → AA g q → Z g x nL (pc + 3) L (.ref q :: st) (wset w q (eN g N (fun _ => none)) t) kc' ks') : Z g x nL pc L (.int n :: st) w kc ks := by
  obtain ⟨p, e, R, s, m, args, below, meth, c, Q⟩ := x
  obtain ⟨hx, hb, hml, hown, hts, hK, hlk, hret, hfr, hlo, hs1, hs2⟩ := ok
  intro H locs ls cells slots h1 h2 hG hS hP
  subst hN
  refine W.anew hx hb hown (hts _ hcl) (va_AO.use (hK.2.2.2.2.2.1 _ hov)) rfl hd rfl hn hbytes (by omega) (by omega) fun cA kA comp f1 f2 f3 f4 => ?_
  have hcA : cA = gA g 5 := by
    obtain ⟨-, kA', comp', -, -, -, b4⟩ := hK.k.2 5 _ rfl
    first | exact Option.some.inj (f1.symm.trans b4) | exact Option.some.inj (f4.symm.trans b4)
  subst hcA
  generalize hH1 : H.push ({ cls := gA g 5, slots := Array.replicate n.toNatClampNeg .null, vm := .none } : Cell) = H1
  have z1 : H1.size = H.size + 1 := by rw [← hH1, Array.size_push]
  have e1 : H1[H.size]? = some (arrV (gA g 5) n.toNatClampNeg (fun _ => .null)) := by rw [← hH1, Array.getElem?_push_size, ← arrV_new]
  have o1 : ∀ q : Nat, q < H.size → H1[q]? = H[q]? := fun q hq => by rw [← hH1, Array.getElem?_push, if_neg (Nat.ne_of_lt hq)]
  obtain ⟨hG1, hn1⟩ := hG.new (H1 := H1) (e := eN g n.toNatClampNeg (fun _ => none)) (t := t) z1 o1 (by show H1[H.size]? = some (vp_cell _ _); rw [vp_cell_q]; exact e1)
  exact kk H.size hn1 hG.2.1 H1 locs ls (cells + 1) (slots + n.toNatClampNeg) (by omega) (by omega) hG1 ⟨Nat.le_trans hS.1 (by omega), fun q a1 a2 => (o1 q (Nat.lt_of_lt_of_le a1 hS.1)).trans (hS.2.1 q a1 a2), hS.2.2⟩ hP
theorem GH.recv {g : Gx} {w : Wd} {H : Heap} {s : State} {a ci t : Nat} {fs : List Value} {q : vw_C} (hG : GH g w H) (hK : KK g s) (hw : w a = some (ob ci fs, t)) (hc : clA[ci]? = some q) : ∃ cell : Cell, H[a]? = some cell ∧ cell.vm.isStatics = false ∧ s.vm.findClass q.1 = some cell.cls := va_recv hK.k (hG.one hw) (q0 := 0) hc rfl
theorem Z.castS {g : Gx} {x : Cx} {own : String} {cc : ByteArray} {nL lv : Nat} {ret : Option FieldType} {pc : Nat} {L : List (Option Value)} {st : List Value} {w : Wd} {kc ks : Nat} {C : String} {q : vw_C} {a ci t index : Nat} {fs : List Value} (ok : OK g x own cc nL lv ret) (hw : w a = some (ob ci fs, t)) (hc : clA[ci]? = some q) (hC : q.1 = C) (hlink : Cond.classLink own index C ∈ lw_all) (hd : decode cc pc = .ok (.checkcast index, 3)) (kk : Z g x nL (pc + 3) L (.ref a :: st) w kc ks) : Z g x nL pc L (.ref a :: st) w kc ks := by
  obtain ⟨p, e, R, s, m, args, below, meth, c, Q⟩ := x
  obtain ⟨hx, hb, hml, hown, hts, hK, hlk, hret, hfr, hlo, hs1, hs2⟩ := ok
  intro H locs ls cells slots h1 h2 hG hS hP
  subst hC
  exact va_castS hx hb hown (hts _ hlink) (hK.k.1 ci q hc).2 (hG.recv hK hw hc) hd (kk H locs ls cells slots h1 h2 hG hS hP)
theorem Z.castY {g : Gx} {x : Cx} {own : String} {cc : ByteArray} {nL lv : Nat} {ret : Option FieldType} {pc : Nat} {L : List (Option Value)} {st : List Value} {w : Wd} {kc ks : Nat} {C : String} {q : vw_C} {a ci t index : Nat} {fs : List Value} (ok : OK g x own cc nL lv ret) (hw : w a = some (ob ci fs, t)) (hc : clA[ci]? = some q) (hC : Cond.castable q.1 C ∈ lw_tbl) (hlink : Cond.classLink own index C ∈ lw_all) (hd : decode cc pc = .ok (.checkcast index, 3)) (kk : Z g x nL (pc + 3) L (.ref a :: st) w kc ks) : Z g x nL pc L (.ref a :: st) w kc ks := by
  obtain ⟨p, e, R, s, m, args, below, meth, c, Q⟩ := x
  obtain ⟨hx, hb, hml, hown, hts, hK, hlk, hret, hfr, hlo, hs1, hs2⟩ := ok
  intro H locs ls cells slots h1 h2 hG hS hP
  exact va_castY hx hb hown (hts _ hlink) (hK.2.2.2.1 _ _ hC) (hG.recv hK hw hc) hd (kk H locs ls cells slots h1 h2 hG hS hP)
theorem Z.instS {g : Gx} {x : Cx} {own : String} {cc : ByteArray} {nL lv : Nat} {ret : Option FieldType} {pc : Nat} {L : List (Option Value)} {st : List Value} {w : Wd} {kc ks : Nat} {C : String} {q : vw_C} {a ci t index : Nat} {fs : List Value} (ok : OK g x own cc nL lv ret) (hw : w a = some (ob ci fs, t)) (hc : clA[ci]? = some q) (hC : q.1 = C) (hlink : Cond.classLink own index C ∈ lw_all) (hd : decode cc pc = .ok (.instanceof index, 3)) (kk : Z g x nL (pc + 3) L (.int 1 :: st) w kc ks) : Z g x nL pc L (.ref a :: st) w kc ks := by
  obtain ⟨p, e, R, s, m, args, below, meth, c, Q⟩ := x
  obtain ⟨hx, hb, hml, hown, hts, hK, hlk, hret, hfr, hlo, hs1, hs2⟩ := ok
  intro H locs ls cells slots h1 h2 hG hS hP
  subst hC
  exact va_instS hx hb hown (hts _ hlink) (hK.k.1 ci q hc).2 (hG.recv hK hw hc) hd (kk H locs ls cells slots h1 h2 hG hS hP)
theorem Z.instNo {g : Gx} {x : Cx} {own : String} {cc : ByteArray} {nL lv : Nat} {ret : Option FieldType} {pc : Nat} {L : List (Option Value)} {st : List Value} {w : Wd} {kc ks : Nat} {C : String} {q : vw_C} {a ci t index : Nat} {fs : List Value} (ok : OK g x own cc nL lv ret) (hw : w a = some (ob ci fs, t)) (hc : clA[ci]? = some q) (hC : (q.1, C) ∈ ncL) (hlink : Cond.classLink own index C ∈ lw_all) (hd : decode cc pc = .ok (.instanceof index, 3)) (kk : Z g x nL (pc + 3) L (.int 0 :: st) w kc ks) : Z g x nL pc L (.ref a :: st) w kc ks := by
  obtain ⟨p, e, R, s, m, args, below, meth, c, Q⟩ := x
  obtain ⟨hx, hb, hml, hown, hts, hK, hlk, hret, hfr, hlo, hs1, hs2⟩ := ok
  intro H locs ls cells slots h1 h2 hG hS hP
  exact va_instNo hx hb hown (hts _ hlink) (hK.2.2.2.2.2.2.2.1 _ hC) (hG.recv hK hw hc) hd (kk H locs ls cells slots h1 h2 hG hS hP)
theorem Z.gets {g : Gx} {x : Cx} {own : String} {cc : ByteArray} {nL lv : Nat} {ret : Option FieldType} {pc : Nat} {L : List (Option Value)} {st : List Value} {w : Wd} {kc ks : Nat} {C n d ref : String} {v : Value} {index : Nat} (ok : OK g x own cc nL lv ret) (hZ : ∀ U : State, KK g U → va_Z C n d v (AA g) U (gH g)) (hlink : Cond.fieldLink own index ref n d ∈ lw_all) (hsame : SameF ref C n d) (hd : decode cc pc = .ok (.getstatic index, 3)) (kk : Z g x nL (pc + 3) L (v :: st) w kc ks) : Z g x nL pc L st w kc ks := by
  obtain ⟨p, e, R, s, m, args, below, meth, c, Q⟩ := x
  obtain ⟨hx, hb, hml, hown, hts, hK, hlk, hret, hfr, hlo, hs1, hs2⟩ := ok
  intro H locs ls cells slots h1 h2 hG hS hP
  have hZ' : va_Z C n d v (AA g) s s.heap := (hZ s hK).kept (fun a ha hna => hs2 a ha)
  exact va_gets hx hb hZ' hS hown (hts _ hlink) (hsame.ok hts) hd (kk H locs ls cells slots h1 h2 hG hS hP)
/-- fewer things in the world, fewer locals, less room asked -/
theorem Z.weak {g : Gx} {x : Cx} {nL pc : Nat} {L L' : List (Option Value)} {st : List Value} {w w' : Wd} {kc ks kc' ks' : Nat} (hc : kc' ≤ kc) (hs : ks' ≤ ks) (hl : L'.length = nL) (hL : ∀ (i : Nat) (v : Value), L'[i]? = some (some v) → L[i]? = some (some v)) (hw : ∀ a y, w' a = some y → w a = some y) (kk : Z g x nL pc L' st w' kc' ks') : Z g x nL pc L st w kc ks := by
  obtain ⟨p, e, R, s, m, args, below, meth, c, Q⟩ := x
  intro H locs ls cells slots h1 h2 hG hS hP
  exact kk H locs ls cells slots (by omega) (by omega) (hG.less hw) hS (hP.less hl hL)
theorem Z.room {g : Gx} {x : Cx} {nL pc : Nat} {L : List (Option Value)} {st : List Value} {w : Wd} {kc ks kc' ks' : Nat} (hc : kc' ≤ kc) (hs : ks' ≤ ks) (kk : Z g x nL pc L st w kc' ks') : Z g x nL pc L st w kc ks := by
  obtain ⟨p, e, R, s, m, args, below, meth, c, Q⟩ := x
  intro H locs ls cells slots h1 h2 hG hS hP
  exact kk H locs ls cells slots (by omega) (by omega) hG hS hP

