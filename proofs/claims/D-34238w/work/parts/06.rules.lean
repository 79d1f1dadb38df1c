/-! ===== RULES of the machine Z (printed by tools/genrules.py) ===== -/
theorem Z.iconst_m1 {g : Gx} {x : Cx} {own : String} {cc : ByteArray} {nL lv : Nat} {ret : Option FieldType} {pc : Nat} {L : List (Option Value)} {st : List Value} {w : Wd} {kc ks : Nat}  (ok : OK g x own cc nL lv ret) (hd : decode cc pc = .ok (.iconst (-1), 1)) (kk : Z g x nL (pc + 1) (L) (.int (-1) :: st) w kc ks) : Z g x nL pc L (st) w kc ks := by
  obtain ⟨p, e, R, s, m, args, below, meth, c, Q⟩ := x
  obtain ⟨hx, hb, hml, hown, hts, hK, hlk, hret, hfr, hlo, hs1, hs2⟩ := ok
  intro H locs ls cells slots h1 h2 hG hS hP
  exact lv_iconst hx hb hd (by decide) (kk H locs ls cells slots h1 h2 hG hS hP)
theorem Z.iconst_0 {g : Gx} {x : Cx} {own : String} {cc : ByteArray} {nL lv : Nat} {ret : Option FieldType} {pc : Nat} {L : List (Option Value)} {st : List Value} {w : Wd} {kc ks : Nat}  (ok : OK g x own cc nL lv ret) (hd : decode cc pc = .ok (.iconst 0, 1)) (kk : Z g x nL (pc + 1) (L) (.int 0 :: st) w kc ks) : Z g x nL pc L (st) w kc ks := by
  obtain ⟨p, e, R, s, m, args, below, meth, c, Q⟩ := x
  obtain ⟨hx, hb, hml, hown, hts, hK, hlk, hret, hfr, hlo, hs1, hs2⟩ := ok
  intro H locs ls cells slots h1 h2 hG hS hP
  exact lv_iconst hx hb hd (by decide) (kk H locs ls cells slots h1 h2 hG hS hP)
theorem Z.iconst_1 {g : Gx} {x : Cx} {own : String} {cc : ByteArray} {nL lv : Nat} {ret : Option FieldType} {pc : Nat} {L : List (Option Value)} {st : List Value} {w : Wd} {kc ks : Nat}  (ok : OK g x own cc nL lv ret) (hd : decode cc pc = .ok (.iconst 1, 1)) (kk : Z g x nL (pc + 1) (L) (.int 1 :: st) w kc ks) : Z g x nL pc L (st) w kc ks := by
  obtain ⟨p, e, R, s, m, args, below, meth, c, Q⟩ := x
  obtain ⟨hx, hb, hml, hown, hts, hK, hlk, hret, hfr, hlo, hs1, hs2⟩ := ok
  intro H locs ls cells slots h1 h2 hG hS hP
  exact lv_iconst hx hb hd (by decide) (kk H locs ls cells slots h1 h2 hG hS hP)
theorem Z.iconst_2 {g : Gx} {x : Cx} {own : String} {cc : ByteArray} {nL lv : Nat} {ret : Option FieldType} {pc : Nat} {L : List (Option Value)} {st : List Value} {w : Wd} {kc ks : Nat}  (ok : OK g x own cc nL lv ret) (hd : decode cc pc = .ok (.iconst 2, 1)) (kk : Z g x nL (pc + 1) (L) (.int 2 :: st) w kc ks) : Z g x nL pc L (st) w kc ks := by
  obtain ⟨p, e, R, s, m, args, below, meth, c, Q⟩ := x
  obtain ⟨hx, hb, hml, hown, hts, hK, hlk, hret, hfr, hlo, hs1, hs2⟩ := ok
  intro H locs ls cells slots h1 h2 hG hS hP
  exact lv_iconst hx hb hd (by decide) (kk H locs ls cells slots h1 h2 hG hS hP)
theorem Z.iconst_3 {g : Gx} {x : Cx} {own : String} {cc : ByteArray} {nL lv : Nat} {ret : Option FieldType} {pc : Nat} {L : List (Option Value)} {st : List Value} {w : Wd} {kc ks : Nat}  (ok : OK g x own cc nL lv ret) (hd : decode cc pc = .ok (.iconst 3, 1)) (kk : Z g x nL (pc + 1) (L) (.int 3 :: st) w kc ks) : Z g x nL pc L (st) w kc ks := by
  obtain ⟨p, e, R, s, m, args, below, meth, c, Q⟩ := x
  obtain ⟨hx, hb, hml, hown, hts, hK, hlk, hret, hfr, hlo, hs1, hs2⟩ := ok
  intro H locs ls cells slots h1 h2 hG hS hP
  exact lv_iconst hx hb hd (by decide) (kk H locs ls cells slots h1 h2 hG hS hP)
theorem Z.iconst_4 {g : Gx} {x : Cx} {own : String} {cc : ByteArray} {nL lv : Nat} {ret : Option FieldType} {pc : Nat} {L : List (Option Value)} {st : List Value} {w : Wd} {kc ks : Nat}  (ok : OK g x own cc nL lv ret) (hd : decode cc pc = .ok (.iconst 4, 1)) (kk : Z g x nL (pc + 1) (L) (.int 4 :: st) w kc ks) : Z g x nL pc L (st) w kc ks := by
  obtain ⟨p, e, R, s, m, args, below, meth, c, Q⟩ := x
  obtain ⟨hx, hb, hml, hown, hts, hK, hlk, hret, hfr, hlo, hs1, hs2⟩ := ok
  intro H locs ls cells slots h1 h2 hG hS hP
  exact lv_iconst hx hb hd (by decide) (kk H locs ls cells slots h1 h2 hG hS hP)
theorem Z.iconst_5 {g : Gx} {x : Cx} {own : String} {cc : ByteArray} {nL lv : Nat} {ret : Option FieldType} {pc : Nat} {L : List (Option Value)} {st : List Value} {w : Wd} {kc ks : Nat}  (ok : OK g x own cc nL lv ret) (hd : decode cc pc = .ok (.iconst 5, 1)) (kk : Z g x nL (pc + 1) (L) (.int 5 :: st) w kc ks) : Z g x nL pc L (st) w kc ks := by
  obtain ⟨p, e, R, s, m, args, below, meth, c, Q⟩ := x
  obtain ⟨hx, hb, hml, hown, hts, hK, hlk, hret, hfr, hlo, hs1, hs2⟩ := ok
  intro H locs ls cells slots h1 h2 hG hS hP
  exact lv_iconst hx hb hd (by decide) (kk H locs ls cells slots h1 h2 hG hS hP)
theorem Z.bipush {g : Gx} {x : Cx} {own : String} {cc : ByteArray} {nL lv : Nat} {ret : Option FieldType} {pc : Nat} {L : List (Option Value)} {st : List Value} {w : Wd} {kc ks : Nat} {n : Int} {v : Int32} (ok : OK g x own cc nL lv ret) (hd : decode cc pc = .ok (.bipush n, 2)) (hv : (Int8.ofInt n).toInt32 = v) (kk : Z g x nL (pc + 2) (L) (.int v :: st) w kc ks) : Z g x nL pc L (st) w kc ks := by
  obtain ⟨p, e, R, s, m, args, below, meth, c, Q⟩ := x
  obtain ⟨hx, hb, hml, hown, hts, hK, hlk, hret, hfr, hlo, hs1, hs2⟩ := ok
  intro H locs ls cells slots h1 h2 hG hS hP
  exact lv_bipush hx hb hd hv (kk H locs ls cells slots h1 h2 hG hS hP)
theorem Z.sipush {g : Gx} {x : Cx} {own : String} {cc : ByteArray} {nL lv : Nat} {ret : Option FieldType} {pc : Nat} {L : List (Option Value)} {st : List Value} {w : Wd} {kc ks : Nat} {n : Int} {v : Int32} (ok : OK g x own cc nL lv ret) (hd : decode cc pc = .ok (.sipush n, 3)) (hv : (Int16.ofInt n).toInt32 = v) (kk : Z g x nL (pc + 3) (L) (.int v :: st) w kc ks) : Z g x nL pc L (st) w kc ks := by
  obtain ⟨p, e, R, s, m, args, below, meth, c, Q⟩ := x
  obtain ⟨hx, hb, hml, hown, hts, hK, hlk, hret, hfr, hlo, hs1, hs2⟩ := ok
  intro H locs ls cells slots h1 h2 hG hS hP
  exact lv_sipush hx hb hd hv (kk H locs ls cells slots h1 h2 hG hS hP)
theorem Z.lconst {g : Gx} {x : Cx} {own : String} {cc : ByteArray} {nL lv : Nat} {ret : Option FieldType} {pc : Nat} {L : List (Option Value)} {st : List Value} {w : Wd} {kc ks : Nat} {n : Fin 2} {v : Int64} (ok : OK g x own cc nL lv ret) (hd : decode cc pc = .ok (.lconst n, 1)) (hv : Int64.ofNat (n : Nat) = v) (kk : Z g x nL (pc + 1) (L) (.long v :: st) w kc ks) : Z g x nL pc L (st) w kc ks := by
  obtain ⟨p, e, R, s, m, args, below, meth, c, Q⟩ := x
  obtain ⟨hx, hb, hml, hown, hts, hK, hlk, hret, hfr, hlo, hs1, hs2⟩ := ok
  intro H locs ls cells slots h1 h2 hG hS hP
  exact lv_lconst hx hb hd hv (kk H locs ls cells slots h1 h2 hG hS hP)
theorem Z.null {g : Gx} {x : Cx} {own : String} {cc : ByteArray} {nL lv : Nat} {ret : Option FieldType} {pc : Nat} {L : List (Option Value)} {st : List Value} {w : Wd} {kc ks : Nat}  (ok : OK g x own cc nL lv ret) (hd : decode cc pc = .ok (.aconst_null, 1)) (kk : Z g x nL (pc + 1) (L) (.null :: st) w kc ks) : Z g x nL pc L (st) w kc ks := by
  obtain ⟨p, e, R, s, m, args, below, meth, c, Q⟩ := x
  obtain ⟨hx, hb, hml, hown, hts, hK, hlk, hret, hfr, hlo, hs1, hs2⟩ := ok
  intro H locs ls cells slots h1 h2 hG hS hP
  exact lv_null hx hb hd (kk H locs ls cells slots h1 h2 hG hS hP)
theorem Z.iload_n {g : Gx} {x : Cx} {own : String} {cc : ByteArray} {nL lv : Nat} {ret : Option FieldType} {pc : Nat} {L : List (Option Value)} {st : List Value} {w : Wd} {kc ks : Nat} {k : Fin 4} {v : Int32} (ok : OK g x own cc nL lv ret) (hd : decode cc pc = .ok (.iload_n k, 1)) (hl : L[(k : Nat)]? = some (some (.int v))) (kk : Z g x nL (pc + 1) (L) (.int v :: st) w kc ks) : Z g x nL pc L (st) w kc ks := by
  obtain ⟨p, e, R, s, m, args, below, meth, c, Q⟩ := x
  obtain ⟨hx, hb, hml, hown, hts, hK, hlk, hret, hfr, hlo, hs1, hs2⟩ := ok
  intro H locs ls cells slots h1 h2 hG hS hP
  exact lv_iload_n hx hb hd rfl (hP.at hl) (kk H locs ls cells slots h1 h2 hG hS hP)
theorem Z.iload {g : Gx} {x : Cx} {own : String} {cc : ByteArray} {nL lv : Nat} {ret : Option FieldType} {pc : Nat} {L : List (Option Value)} {st : List Value} {w : Wd} {kc ks : Nat} {i : Nat} {v : Int32} (ok : OK g x own cc nL lv ret) (hd : decode cc pc = .ok (.iload i, 2)) (hl : L[i]? = some (some (.int v))) (kk : Z g x nL (pc + 2) (L) (.int v :: st) w kc ks) : Z g x nL pc L (st) w kc ks := by
  obtain ⟨p, e, R, s, m, args, below, meth, c, Q⟩ := x
  obtain ⟨hx, hb, hml, hown, hts, hK, hlk, hret, hfr, hlo, hs1, hs2⟩ := ok
  intro H locs ls cells slots h1 h2 hG hS hP
  exact lv_iload hx hb hd (hP.at hl) (kk H locs ls cells slots h1 h2 hG hS hP)
theorem Z.fload {g : Gx} {x : Cx} {own : String} {cc : ByteArray} {nL lv : Nat} {ret : Option FieldType} {pc : Nat} {L : List (Option Value)} {st : List Value} {w : Wd} {kc ks : Nat} {i : Nat} {v : UInt32} (ok : OK g x own cc nL lv ret) (hd : decode cc pc = .ok (.fload i, 2)) (hl : L[i]? = some (some (.float v))) (kk : Z g x nL (pc + 2) (L) (.float v :: st) w kc ks) : Z g x nL pc L (st) w kc ks := by
  obtain ⟨p, e, R, s, m, args, below, meth, c, Q⟩ := x
  obtain ⟨hx, hb, hml, hown, hts, hK, hlk, hret, hfr, hlo, hs1, hs2⟩ := ok
  intro H locs ls cells slots h1 h2 hG hS hP
  exact lv_fload hx hb hd (hP.at hl) (kk H locs ls cells slots h1 h2 hG hS hP)
theorem Z.aload_nR {g : Gx} {x : Cx} {own : String} {cc : ByteArray} {nL lv : Nat} {ret : Option FieldType} {pc : Nat} {L : List (Option Value)} {st : List Value} {w : Wd} {kc ks : Nat} {k : Fin 4} {v : Nat} (ok : OK g x own cc nL lv ret) (hd : decode cc pc = .ok (.aload_n k, 1)) (hl : L[(k : Nat)]? = some (some (.ref v))) (kk : Z g x nL (pc + 1) (L) (.ref v :: st) w kc ks) : Z g x nL pc L (st) w kc ks := by
  obtain ⟨p, e, R, s, m, args, below, meth, c, Q⟩ := x
  obtain ⟨hx, hb, hml, hown, hts, hK, hlk, hret, hfr, hlo, hs1, hs2⟩ := ok
  intro H locs ls cells slots h1 h2 hG hS hP
  exact lv_aload_n hx hb hd rfl (hP.at hl) (kk H locs ls cells slots h1 h2 hG hS hP)
theorem Z.aload_nN {g : Gx} {x : Cx} {own : String} {cc : ByteArray} {nL lv : Nat} {ret : Option FieldType} {pc : Nat} {L : List (Option Value)} {st : List Value} {w : Wd} {kc ks : Nat} {k : Fin 4} (ok : OK g x own cc nL lv ret) (hd : decode cc pc = .ok (.aload_n k, 1)) (hl : L[(k : Nat)]? = some (some .null)) (kk : Z g x nL (pc + 1) (L) (.null :: st) w kc ks) : Z g x nL pc L (st) w kc ks := by
  obtain ⟨p, e, R, s, m, args, below, meth, c, Q⟩ := x
  obtain ⟨hx, hb, hml, hown, hts, hK, hlk, hret, hfr, hlo, hs1, hs2⟩ := ok
  intro H locs ls cells slots h1 h2 hG hS hP
  exact lv_aload_nN hx hb hd rfl (hP.at hl) (kk H locs ls cells slots h1 h2 hG hS hP)
theorem Z.aloadR {g : Gx} {x : Cx} {own : String} {cc : ByteArray} {nL lv : Nat} {ret : Option FieldType} {pc : Nat} {L : List (Option Value)} {st : List Value} {w : Wd} {kc ks : Nat} {i : Nat} {v : Nat} (ok : OK g x own cc nL lv ret) (hd : decode cc pc = .ok (.aload i, 2)) (hl : L[i]? = some (some (.ref v))) (kk : Z g x nL (pc + 2) (L) (.ref v :: st) w kc ks) : Z g x nL pc L (st) w kc ks := by
  obtain ⟨p, e, R, s, m, args, below, meth, c, Q⟩ := x
  obtain ⟨hx, hb, hml, hown, hts, hK, hlk, hret, hfr, hlo, hs1, hs2⟩ := ok
  intro H locs ls cells slots h1 h2 hG hS hP
  exact lv_aload hx hb hd (hP.at hl) (kk H locs ls cells slots h1 h2 hG hS hP)
theorem Z.aloadN {g : Gx} {x : Cx} {own : String} {cc : ByteArray} {nL lv : Nat} {ret : Option FieldType} {pc : Nat} {L : List (Option Value)} {st : List Value} {w : Wd} {kc ks : Nat} {i : Nat} (ok : OK g x own cc nL lv ret) (hd : decode cc pc = .ok (.aload i, 2)) (hl : L[i]? = some (some .null)) (kk : Z g x nL (pc + 2) (L) (.null :: st) w kc ks) : Z g x nL pc L (st) w kc ks := by
  obtain ⟨p, e, R, s, m, args, below, meth, c, Q⟩ := x
  obtain ⟨hx, hb, hml, hown, hts, hK, hlk, hret, hfr, hlo, hs1, hs2⟩ := ok
  intro H locs ls cells slots h1 h2 hG hS hP
  exact lv_aloadN hx hb hd (hP.at hl) (kk H locs ls cells slots h1 h2 hG hS hP)
/-- a reference or null, on the stack or in a local -/
def isRf (v : Value) : Prop := v = .null ∨ ∃ a : Nat, v = .ref a
theorem isRf.r (a : Nat) : isRf (.ref a) := Or.inr ⟨a, rfl⟩
theorem isRf.n : isRf .null := Or.inl rfl
theorem isRf.v (r : Option Nat) : isRf (va_rf r) := by
  cases r with
  | none => exact isRf.n
  | some a => exact isRf.r a
theorem Z.aload_n {g : Gx} {x : Cx} {own : String} {cc : ByteArray} {nL lv : Nat} {ret : Option FieldType} {pc : Nat} {L : List (Option Value)} {st : List Value} {w : Wd} {kc ks : Nat} {k : Fin 4} {v : Value} (ok : OK g x own cc nL lv ret) (hd : decode cc pc = .ok (.aload_n k, 1)) (hl : L[(k : Nat)]? = some (some v)) (hv : isRf v) (kk : Z g x nL (pc + 1) L (v :: st) w kc ks) : Z g x nL pc L st w kc ks := by
  rcases hv with rfl | ⟨a, rfl⟩
  · exact Z.aload_nN ok hd hl kk
  · exact Z.aload_nR ok hd hl kk
theorem Z.aload {g : Gx} {x : Cx} {own : String} {cc : ByteArray} {nL lv : Nat} {ret : Option FieldType} {pc : Nat} {L : List (Option Value)} {st : List Value} {w : Wd} {kc ks : Nat} {i : Nat} {v : Value} (ok : OK g x own cc nL lv ret) (hd : decode cc pc = .ok (.aload i, 2)) (hl : L[i]? = some (some v)) (hv : isRf v) (kk : Z g x nL (pc + 2) L (v :: st) w kc ks) : Z g x nL pc L st w kc ks := by
  rcases hv with rfl | ⟨a, rfl⟩
  · exact Z.aloadN ok hd hl kk
  · exact Z.aloadR ok hd hl kk
theorem Z.istore_n {g : Gx} {x : Cx} {own : String} {cc : ByteArray} {nL lv : Nat} {ret : Option FieldType} {pc : Nat} {L : List (Option Value)} {st : List Value} {w : Wd} {kc ks : Nat} {k : Fin 4} {i : Nat} {v : Int32} (ok : OK g x own cc nL lv ret) (hd : decode cc pc = .ok (.istore_n k, 1)) (hi : (k : Nat) = i) (hn : i < nL) (kk : Z g x nL (pc + 1) (L.set i (some (.int v))) (st) w kc ks) : Z g x nL pc L (.int v :: st) w kc ks := by
  obtain ⟨p, e, R, s, m, args, below, meth, c, Q⟩ := x
  obtain ⟨hx, hb, hml, hown, hts, hK, hlk, hret, hfr, hlo, hs1, hs2⟩ := ok
  intro H locs ls cells slots h1 h2 hG hS hP
  exact lv_istore_n hx hb hd hi hP.has hn rfl (fun ls' hl' => kk H locs ls' cells slots h1 h2 hG hS (hP.put rfl hl'))
theorem Z.istore {g : Gx} {x : Cx} {own : String} {cc : ByteArray} {nL lv : Nat} {ret : Option FieldType} {pc : Nat} {L : List (Option Value)} {st : List Value} {w : Wd} {kc ks : Nat} {i : Nat} {v : Int32} (ok : OK g x own cc nL lv ret) (hd : decode cc pc = .ok (.istore i, 2)) (hn : i < nL) (kk : Z g x nL (pc + 2) (L.set i (some (.int v))) (st) w kc ks) : Z g x nL pc L (.int v :: st) w kc ks := by
  obtain ⟨p, e, R, s, m, args, below, meth, c, Q⟩ := x
  obtain ⟨hx, hb, hml, hown, hts, hK, hlk, hret, hfr, hlo, hs1, hs2⟩ := ok
  intro H locs ls cells slots h1 h2 hG hS hP
  exact lv_istore hx hb hd  hP.has hn rfl (fun ls' hl' => kk H locs ls' cells slots h1 h2 hG hS (hP.put rfl hl'))
theorem Z.fstore {g : Gx} {x : Cx} {own : String} {cc : ByteArray} {nL lv : Nat} {ret : Option FieldType} {pc : Nat} {L : List (Option Value)} {st : List Value} {w : Wd} {kc ks : Nat} {i : Nat} {v : UInt32} (ok : OK g x own cc nL lv ret) (hd : decode cc pc = .ok (.fstore i, 2)) (hn : i < nL) (kk : Z g x nL (pc + 2) (L.set i (some (.float v))) (st) w kc ks) : Z g x nL pc L (.float v :: st) w kc ks := by
  obtain ⟨p, e, R, s, m, args, below, meth, c, Q⟩ := x
  obtain ⟨hx, hb, hml, hown, hts, hK, hlk, hret, hfr, hlo, hs1, hs2⟩ := ok
  intro H locs ls cells slots h1 h2 hG hS hP
  exact lv_fstore hx hb hd  hP.has hn rfl (fun ls' hl' => kk H locs ls' cells slots h1 h2 hG hS (hP.put rfl hl'))
theorem Z.astore_nR {g : Gx} {x : Cx} {own : String} {cc : ByteArray} {nL lv : Nat} {ret : Option FieldType} {pc : Nat} {L : List (Option Value)} {st : List Value} {w : Wd} {kc ks : Nat} {k : Fin 4} {i : Nat} {v : Nat} (ok : OK g x own cc nL lv ret) (hd : decode cc pc = .ok (.astore_n k, 1)) (hi : (k : Nat) = i) (hn : i < nL) (kk : Z g x nL (pc + 1) (L.set i (some (.ref v))) (st) w kc ks) : Z g x nL pc L (.ref v :: st) w kc ks := by
  obtain ⟨p, e, R, s, m, args, below, meth, c, Q⟩ := x
  obtain ⟨hx, hb, hml, hown, hts, hK, hlk, hret, hfr, hlo, hs1, hs2⟩ := ok
  intro H locs ls cells slots h1 h2 hG hS hP
  exact lv_astore_n hx hb hd hi hP.has hn rfl (fun ls' hl' => kk H locs ls' cells slots h1 h2 hG hS (hP.put rfl hl'))
theorem Z.astore_nN {g : Gx} {x : Cx} {own : String} {cc : ByteArray} {nL lv : Nat} {ret : Option FieldType} {pc : Nat} {L : List (Option Value)} {st : List Value} {w : Wd} {kc ks : Nat} {k : Fin 4} {i : Nat} (ok : OK g x own cc nL lv ret) (hd : decode cc pc = .ok (.astore_n k, 1)) (hi : (k : Nat) = i) (hn : i < nL) (kk : Z g x nL (pc + 1) (L.set i (some (.null))) (st) w kc ks) : Z g x nL pc L (.null :: st) w kc ks := by
  obtain ⟨p, e, R, s, m, args, below, meth, c, Q⟩ := x
  obtain ⟨hx, hb, hml, hown, hts, hK, hlk, hret, hfr, hlo, hs1, hs2⟩ := ok
  intro H locs ls cells slots h1 h2 hG hS hP
  exact lv_astore_nN hx hb hd hi hP.has hn rfl (fun ls' hl' => kk H locs ls' cells slots h1 h2 hG hS (hP.put rfl hl'))
theorem Z.astoreR {g : Gx} {x : Cx} {own : String} {cc : ByteArray} {nL lv : Nat} {ret : Option FieldType} {pc : Nat} {L : List (Option Value)} {st : List Value} {w : Wd} {kc ks : Nat} {i : Nat} {v : Nat} (ok : OK g x own cc nL lv ret) (hd : decode cc pc = .ok (.astore i, 2)) (hn : i < nL) (kk : Z g x nL (pc + 2) (L.set i (some (.ref v))) (st) w kc ks) : Z g x nL pc L (.ref v :: st) w kc ks := by
  obtain ⟨p, e, R, s, m, args, below, meth, c, Q⟩ := x
  obtain ⟨hx, hb, hml, hown, hts, hK, hlk, hret, hfr, hlo, hs1, hs2⟩ := ok
  intro H locs ls cells slots h1 h2 hG hS hP
  exact lv_astore hx hb hd  hP.has hn rfl (fun ls' hl' => kk H locs ls' cells slots h1 h2 hG hS (hP.put rfl hl'))
theorem Z.astoreN {g : Gx} {x : Cx} {own : String} {cc : ByteArray} {nL lv : Nat} {ret : Option FieldType} {pc : Nat} {L : List (Option Value)} {st : List Value} {w : Wd} {kc ks : Nat} {i : Nat} (ok : OK g x own cc nL lv ret) (hd : decode cc pc = .ok (.astore i, 2)) (hn : i < nL) (kk : Z g x nL (pc + 2) (L.set i (some (.null))) (st) w kc ks) : Z g x nL pc L (.null :: st) w kc ks := by
  obtain ⟨p, e, R, s, m, args, below, meth, c, Q⟩ := x
  obtain ⟨hx, hb, hml, hown, hts, hK, hlk, hret, hfr, hlo, hs1, hs2⟩ := ok
  intro H locs ls cells slots h1 h2 hG hS hP
  exact lv_astoreN hx hb hd  hP.has hn rfl (fun ls' hl' => kk H locs ls' cells slots h1 h2 hG hS (hP.put rfl hl'))
theorem Z.astore_n {g : Gx} {x : Cx} {own : String} {cc : ByteArray} {nL lv : Nat} {ret : Option FieldType} {pc : Nat} {L : List (Option Value)} {st : List Value} {w : Wd} {kc ks : Nat} {k : Fin 4} {i : Nat} {v : Value} (ok : OK g x own cc nL lv ret) (hd : decode cc pc = .ok (.astore_n k, 1)) (hi : (k : Nat) = i) (hn : i < nL) (hv : isRf v) (kk : Z g x nL (pc + 1) (L.set i (some v)) st w kc ks) : Z g x nL pc L (v :: st) w kc ks := by
  rcases hv with rfl | ⟨a, rfl⟩
  · exact Z.astore_nN ok hd hi hn kk
  · exact Z.astore_nR ok hd hi hn kk
theorem Z.astore {g : Gx} {x : Cx} {own : String} {cc : ByteArray} {nL lv : Nat} {ret : Option FieldType} {pc : Nat} {L : List (Option Value)} {st : List Value} {w : Wd} {kc ks : Nat} {i : Nat} {v : Value} (ok : OK g x own cc nL lv ret) (hd : decode cc pc = .ok (.astore i, 2)) (hn : i < nL) (hv : isRf v) (kk : Z g x nL (pc + 2) (L.set i (some v)) st w kc ks) : Z g x nL pc L (v :: st) w kc ks := by
  rcases hv with rfl | ⟨a, rfl⟩
  · exact Z.astoreN ok hd hn kk
  · exact Z.astoreR ok hd hn kk
theorem Z.iinc {g : Gx} {x : Cx} {own : String} {cc : ByteArray} {nL lv : Nat} {ret : Option FieldType} {pc : Nat} {L : List (Option Value)} {st : List Value} {w : Wd} {kc ks : Nat} {i : Nat} {n : Int} {v u : Int32} (ok : OK g x own cc nL lv ret) (hd : decode cc pc = .ok (.iinc i n, 3)) (hl : L[i]? = some (some (.int v))) (hu : v + Int32.ofInt n = u) (kk : Z g x nL (pc + 3) (L.set i (some (.int u))) st w kc ks) : Z g x nL pc L st w kc ks := by
  obtain ⟨p, e, R, s, m, args, below, meth, c, Q⟩ := x
  obtain ⟨hx, hb, hml, hown, hts, hK, hlk, hret, hfr, hlo, hs1, hs2⟩ := ok
  intro H locs ls cells slots h1 h2 hG hS hP
  have hm := (lvA_mem L 0 (i, .int v)).mpr ⟨i, by simp, hl⟩
  obtain ⟨k, hk⟩ := List.getElem?_of_mem hm
  have hi : i < nL := by
    have := (List.getElem?_eq_some_iff.mp hl).1
    rw [hP.2.1] at this
    exact this
  exact lv_iinc hx hb hd hP.has hk hu hi rfl (fun ls' hl' => kk H locs ls' cells slots h1 h2 hG hS (hP.put rfl hl'))
theorem Z.iadd {g : Gx} {x : Cx} {own : String} {cc : ByteArray} {nL lv : Nat} {ret : Option FieldType} {pc : Nat} {L : List (Option Value)} {st : List Value} {w : Wd} {kc ks : Nat} {x0 y0 : Int32} (ok : OK g x own cc nL lv ret) (hd : decode cc pc = .ok (.iadd, 1)) (kk : Z g x nL (pc + 1) (L) (.int (x0 + y0) :: st) w kc ks) : Z g x nL pc L (.int y0 :: .int x0 :: st) w kc ks := by
  obtain ⟨p, e, R, s, m, args, below, meth, c, Q⟩ := x
  obtain ⟨hx, hb, hml, hown, hts, hK, hlk, hret, hfr, hlo, hs1, hs2⟩ := ok
  intro H locs ls cells slots h1 h2 hG hS hP
  exact lv_iadd hx hb hd (kk H locs ls cells slots h1 h2 hG hS hP)
theorem Z.isub {g : Gx} {x : Cx} {own : String} {cc : ByteArray} {nL lv : Nat} {ret : Option FieldType} {pc : Nat} {L : List (Option Value)} {st : List Value} {w : Wd} {kc ks : Nat} {x0 y0 : Int32} (ok : OK g x own cc nL lv ret) (hd : decode cc pc = .ok (.isub, 1)) (kk : Z g x nL (pc + 1) (L) (.int (x0 - y0) :: st) w kc ks) : Z g x nL pc L (.int y0 :: .int x0 :: st) w kc ks := by
  obtain ⟨p, e, R, s, m, args, below, meth, c, Q⟩ := x
  obtain ⟨hx, hb, hml, hown, hts, hK, hlk, hret, hfr, hlo, hs1, hs2⟩ := ok
  intro H locs ls cells slots h1 h2 hG hS hP
  exact lv_isub hx hb hd (kk H locs ls cells slots h1 h2 hG hS hP)
theorem Z.imul {g : Gx} {x : Cx} {own : String} {cc : ByteArray} {nL lv : Nat} {ret : Option FieldType} {pc : Nat} {L : List (Option Value)} {st : List Value} {w : Wd} {kc ks : Nat} {x0 y0 : Int32} (ok : OK g x own cc nL lv ret) (hd : decode cc pc = .ok (.imul, 1)) (kk : Z g x nL (pc + 1) (L) (.int (x0 * y0) :: st) w kc ks) : Z g x nL pc L (.int y0 :: .int x0 :: st) w kc ks := by
  obtain ⟨p, e, R, s, m, args, below, meth, c, Q⟩ := x
  obtain ⟨hx, hb, hml, hown, hts, hK, hlk, hret, hfr, hlo, hs1, hs2⟩ := ok
  intro H locs ls cells slots h1 h2 hG hS hP
  exact lv_imul hx hb hd (kk H locs ls cells slots h1 h2 hG hS hP)
theorem Z.iand {g : Gx} {x : Cx} {own : String} {cc : ByteArray} {nL lv : Nat} {ret : Option FieldType} {pc : Nat} {L : List (Option Value)} {st : List Value} {w : Wd} {kc ks : Nat} {x0 y0 : Int32} (ok : OK g x own cc nL lv ret) (hd : decode cc pc = .ok (.iand, 1)) (kk : Z g x nL (pc + 1) (L) (.int (x0 &&& y0) :: st) w kc ks) : Z g x nL pc L (.int y0 :: .int x0 :: st) w kc ks := by
  obtain ⟨p, e, R, s, m, args, below, meth, c, Q⟩ := x
  obtain ⟨hx, hb, hml, hown, hts, hK, hlk, hret, hfr, hlo, hs1, hs2⟩ := ok
  intro H locs ls cells slots h1 h2 hG hS hP
  exact lv_iand hx hb hd (kk H locs ls cells slots h1 h2 hG hS hP)
theorem Z.ior {g : Gx} {x : Cx} {own : String} {cc : ByteArray} {nL lv : Nat} {ret : Option FieldType} {pc : Nat} {L : List (Option Value)} {st : List Value} {w : Wd} {kc ks : Nat} {x0 y0 : Int32} (ok : OK g x own cc nL lv ret) (hd : decode cc pc = .ok (.ior, 1)) (kk : Z g x nL (pc + 1) (L) (.int (x0 ||| y0) :: st) w kc ks) : Z g x nL pc L (.int y0 :: .int x0 :: st) w kc ks := by
  obtain ⟨p, e, R, s, m, args, below, meth, c, Q⟩ := x
  obtain ⟨hx, hb, hml, hown, hts, hK, hlk, hret, hfr, hlo, hs1, hs2⟩ := ok
  intro H locs ls cells slots h1 h2 hG hS hP
  exact lv_ior hx hb hd (kk H locs ls cells slots h1 h2 hG hS hP)
theorem Z.ixor {g : Gx} {x : Cx} {own : String} {cc : ByteArray} {nL lv : Nat} {ret : Option FieldType} {pc : Nat} {L : List (Option Value)} {st : List Value} {w : Wd} {kc ks : Nat} {x0 y0 : Int32} (ok : OK g x own cc nL lv ret) (hd : decode cc pc = .ok (.ixor, 1)) (kk : Z g x nL (pc + 1) (L) (.int (x0 ^^^ y0) :: st) w kc ks) : Z g x nL pc L (.int y0 :: .int x0 :: st) w kc ks := by
  obtain ⟨p, e, R, s, m, args, below, meth, c, Q⟩ := x
  obtain ⟨hx, hb, hml, hown, hts, hK, hlk, hret, hfr, hlo, hs1, hs2⟩ := ok
  intro H locs ls cells slots h1 h2 hG hS hP
  exact lv_ixor hx hb hd (kk H locs ls cells slots h1 h2 hG hS hP)
theorem Z.idiv {g : Gx} {x : Cx} {own : String} {cc : ByteArray} {nL lv : Nat} {ret : Option FieldType} {pc : Nat} {L : List (Option Value)} {st : List Value} {w : Wd} {kc ks : Nat} {x0 y0 : Int32} (ok : OK g x own cc nL lv ret) (hd : decode cc pc = .ok (.idiv, 1)) (hne : ¬ y0 = 0) (kk : Z g x nL (pc + 1) (L) (.int (x0 / y0) :: st) w kc ks) : Z g x nL pc L (.int y0 :: .int x0 :: st) w kc ks := by
  obtain ⟨p, e, R, s, m, args, below, meth, c, Q⟩ := x
  obtain ⟨hx, hb, hml, hown, hts, hK, hlk, hret, hfr, hlo, hs1, hs2⟩ := ok
  intro H locs ls cells slots h1 h2 hG hS hP
  exact lv_idiv hx hb hd hne (kk H locs ls cells slots h1 h2 hG hS hP)
theorem Z.irem {g : Gx} {x : Cx} {own : String} {cc : ByteArray} {nL lv : Nat} {ret : Option FieldType} {pc : Nat} {L : List (Option Value)} {st : List Value} {w : Wd} {kc ks : Nat} {x0 y0 : Int32} (ok : OK g x own cc nL lv ret) (hd : decode cc pc = .ok (.irem, 1)) (hne : ¬ y0 = 0) (kk : Z g x nL (pc + 1) (L) (.int (x0 - x0 / y0 * y0) :: st) w kc ks) : Z g x nL pc L (.int y0 :: .int x0 :: st) w kc ks := by
  obtain ⟨p, e, R, s, m, args, below, meth, c, Q⟩ := x
  obtain ⟨hx, hb, hml, hown, hts, hK, hlk, hret, hfr, hlo, hs1, hs2⟩ := ok
  intro H locs ls cells slots h1 h2 hG hS hP
  exact lv_irem hx hb hd hne (kk H locs ls cells slots h1 h2 hG hS hP)
theorem Z.ishl {g : Gx} {x : Cx} {own : String} {cc : ByteArray} {nL lv : Nat} {ret : Option FieldType} {pc : Nat} {L : List (Option Value)} {st : List Value} {w : Wd} {kc ks : Nat} {x0 y0 v : Int32} (ok : OK g x own cc nL lv ret) (hd : decode cc pc = .ok (.ishl, 1)) (hv : x0 <<< (y0 &&& 31) = v) (kk : Z g x nL (pc + 1) (L) (.int v :: st) w kc ks) : Z g x nL pc L (.int y0 :: .int x0 :: st) w kc ks := by
  obtain ⟨p, e, R, s, m, args, below, meth, c, Q⟩ := x
  obtain ⟨hx, hb, hml, hown, hts, hK, hlk, hret, hfr, hlo, hs1, hs2⟩ := ok
  intro H locs ls cells slots h1 h2 hG hS hP
  exact lv_ishl hx hb hd (by rw [hv]; exact (kk H locs ls cells slots h1 h2 hG hS hP))
theorem Z.ishr {g : Gx} {x : Cx} {own : String} {cc : ByteArray} {nL lv : Nat} {ret : Option FieldType} {pc : Nat} {L : List (Option Value)} {st : List Value} {w : Wd} {kc ks : Nat} {x0 y0 v : Int32} (ok : OK g x own cc nL lv ret) (hd : decode cc pc = .ok (.ishr, 1)) (hv : x0 >>> (y0 &&& 31) = v) (kk : Z g x nL (pc + 1) (L) (.int v :: st) w kc ks) : Z g x nL pc L (.int y0 :: .int x0 :: st) w kc ks := by
  obtain ⟨p, e, R, s, m, args, below, meth, c, Q⟩ := x
  obtain ⟨hx, hb, hml, hown, hts, hK, hlk, hret, hfr, hlo, hs1, hs2⟩ := ok
  intro H locs ls cells slots h1 h2 hG hS hP
  exact lv_ishr hx hb hd (by rw [hv]; exact (kk H locs ls cells slots h1 h2 hG hS hP))
theorem Z.iushr {g : Gx} {x : Cx} {own : String} {cc : ByteArray} {nL lv : Nat} {ret : Option FieldType} {pc : Nat} {L : List (Option Value)} {st : List Value} {w : Wd} {kc ks : Nat} {x0 y0 v : Int32} (ok : OK g x own cc nL lv ret) (hd : decode cc pc = .ok (.iushr, 1)) (hv : (x0.toUInt32 >>> (y0.toUInt32 &&& Int32.toUInt32 31)).toInt32 = v) (kk : Z g x nL (pc + 1) (L) (.int v :: st) w kc ks) : Z g x nL pc L (.int y0 :: .int x0 :: st) w kc ks := by
  obtain ⟨p, e, R, s, m, args, below, meth, c, Q⟩ := x
  obtain ⟨hx, hb, hml, hown, hts, hK, hlk, hret, hfr, hlo, hs1, hs2⟩ := ok
  intro H locs ls cells slots h1 h2 hG hS hP
  exact lv_iushr hx hb hd hv (kk H locs ls cells slots h1 h2 hG hS hP)
theorem Z.ineg {g : Gx} {x : Cx} {own : String} {cc : ByteArray} {nL lv : Nat} {ret : Option FieldType} {pc : Nat} {L : List (Option Value)} {st : List Value} {w : Wd} {kc ks : Nat} {x0 : Int32} (ok : OK g x own cc nL lv ret) (hd : decode cc pc = .ok (.ineg, 1)) (kk : Z g x nL (pc + 1) (L) (.int (-x0) :: st) w kc ks) : Z g x nL pc L (.int x0 :: st) w kc ks := by
  obtain ⟨p, e, R, s, m, args, below, meth, c, Q⟩ := x
  obtain ⟨hx, hb, hml, hown, hts, hK, hlk, hret, hfr, hlo, hs1, hs2⟩ := ok
  intro H locs ls cells slots h1 h2 hG hS hP
  exact lv_ineg hx hb hd (kk H locs ls cells slots h1 h2 hG hS hP)
theorem Z.i2l {g : Gx} {x : Cx} {own : String} {cc : ByteArray} {nL lv : Nat} {ret : Option FieldType} {pc : Nat} {L : List (Option Value)} {st : List Value} {w : Wd} {kc ks : Nat} {x0 : Int32} {v : Int64} (ok : OK g x own cc nL lv ret) (hd : decode cc pc = .ok (.i2l, 1)) (hv : x0.toInt64 = v) (kk : Z g x nL (pc + 1) (L) (.long v :: st) w kc ks) : Z g x nL pc L (.int x0 :: st) w kc ks := by
  obtain ⟨p, e, R, s, m, args, below, meth, c, Q⟩ := x
  obtain ⟨hx, hb, hml, hown, hts, hK, hlk, hret, hfr, hlo, hs1, hs2⟩ := ok
  intro H locs ls cells slots h1 h2 hG hS hP
  exact lv_i2l hx hb hd hv (kk H locs ls cells slots h1 h2 hG hS hP)
theorem Z.i2c {g : Gx} {x : Cx} {own : String} {cc : ByteArray} {nL lv : Nat} {ret : Option FieldType} {pc : Nat} {L : List (Option Value)} {st : List Value} {w : Wd} {kc ks : Nat} {x0 v : Int32} (ok : OK g x own cc nL lv ret) (hd : decode cc pc = .ok (.i2c, 1)) (hv : (x0.toUInt32 % 65536).toInt32 = v) (kk : Z g x nL (pc + 1) (L) (.int v :: st) w kc ks) : Z g x nL pc L (.int x0 :: st) w kc ks := by
  obtain ⟨p, e, R, s, m, args, below, meth, c, Q⟩ := x
  obtain ⟨hx, hb, hml, hown, hts, hK, hlk, hret, hfr, hlo, hs1, hs2⟩ := ok
  intro H locs ls cells slots h1 h2 hG hS hP
  exact lv_i2c hx hb hd hv (kk H locs ls cells slots h1 h2 hG hS hP)
theorem Z.dup {g : Gx} {x : Cx} {own : String} {cc : ByteArray} {nL lv : Nat} {ret : Option FieldType} {pc : Nat} {L : List (Option Value)} {st : List Value} {w : Wd} {kc ks : Nat} {va : Value} (ok : OK g x own cc nL lv ret) (hd : decode cc pc = .ok (.dup, 1)) (hc : va.category = 1) (kk : Z g x nL (pc + 1) (L) (va :: va :: st) w kc ks) : Z g x nL pc L (va :: st) w kc ks := by
  obtain ⟨p, e, R, s, m, args, below, meth, c, Q⟩ := x
  obtain ⟨hx, hb, hml, hown, hts, hK, hlk, hret, hfr, hlo, hs1, hs2⟩ := ok
  intro H locs ls cells slots h1 h2 hG hS hP
  exact lv_dup hx hb hd hc (kk H locs ls cells slots h1 h2 hG hS hP)
theorem Z.pop {g : Gx} {x : Cx} {own : String} {cc : ByteArray} {nL lv : Nat} {ret : Option FieldType} {pc : Nat} {L : List (Option Value)} {st : List Value} {w : Wd} {kc ks : Nat} {va : Value} (ok : OK g x own cc nL lv ret) (hd : decode cc pc = .ok (.pop, 1)) (hc : va.category = 1) (kk : Z g x nL (pc + 1) (L) (st) w kc ks) : Z g x nL pc L (va :: st) w kc ks := by
  obtain ⟨p, e, R, s, m, args, below, meth, c, Q⟩ := x
  obtain ⟨hx, hb, hml, hown, hts, hK, hlk, hret, hfr, hlo, hs1, hs2⟩ := ok
  intro H locs ls cells slots h1 h2 hG hS hP
  exact lv_pop hx hb hd hc (kk H locs ls cells slots h1 h2 hG hS hP)
theorem Z.dup_x1 {g : Gx} {x : Cx} {own : String} {cc : ByteArray} {nL lv : Nat} {ret : Option FieldType} {pc : Nat} {L : List (Option Value)} {st : List Value} {w : Wd} {kc ks : Nat} {va vb : Value} (ok : OK g x own cc nL lv ret) (hd : decode cc pc = .ok (.dup_x1, 1)) (hc : va.category = 1) (hc2 : vb.category = 1) (kk : Z g x nL (pc + 1) (L) (va :: vb :: va :: st) w kc ks) : Z g x nL pc L (va :: vb :: st) w kc ks := by
  obtain ⟨p, e, R, s, m, args, below, meth, c, Q⟩ := x
  obtain ⟨hx, hb, hml, hown, hts, hK, hlk, hret, hfr, hlo, hs1, hs2⟩ := ok
  intro H locs ls cells slots h1 h2 hG hS hP
  exact lv_dup_x1 hx hb hd hc hc2 (kk H locs ls cells slots h1 h2 hG hS hP)
theorem Z.dup_x2 {g : Gx} {x : Cx} {own : String} {cc : ByteArray} {nL lv : Nat} {ret : Option FieldType} {pc : Nat} {L : List (Option Value)} {st : List Value} {w : Wd} {kc ks : Nat} {va vb vd : Value} (ok : OK g x own cc nL lv ret) (hd : decode cc pc = .ok (.dup_x2, 1)) (hc : va.category = 1) (hc2 : vb.category = 1) (hc3 : vd.category = 1) (kk : Z g x nL (pc + 1) (L) (va :: vb :: vd :: va :: st) w kc ks) : Z g x nL pc L (va :: vb :: vd :: st) w kc ks := by
  obtain ⟨p, e, R, s, m, args, below, meth, c, Q⟩ := x
  obtain ⟨hx, hb, hml, hown, hts, hK, hlk, hret, hfr, hlo, hs1, hs2⟩ := ok
  intro H locs ls cells slots h1 h2 hG hS hP
  exact lv_dup_x2 hx hb hd hc hc2 hc3 (kk H locs ls cells slots h1 h2 hG hS hP)
theorem Z.dup2 {g : Gx} {x : Cx} {own : String} {cc : ByteArray} {nL lv : Nat} {ret : Option FieldType} {pc : Nat} {L : List (Option Value)} {st : List Value} {w : Wd} {kc ks : Nat} {va vb : Value} (ok : OK g x own cc nL lv ret) (hd : decode cc pc = .ok (.dup2, 1)) (hc : va.category = 1) (hc2 : vb.category = 1) (kk : Z g x nL (pc + 1) (L) (va :: vb :: va :: vb :: st) w kc ks) : Z g x nL pc L (va :: vb :: st) w kc ks := by
  obtain ⟨p, e, R, s, m, args, below, meth, c, Q⟩ := x
  obtain ⟨hx, hb, hml, hown, hts, hK, hlk, hret, hfr, hlo, hs1, hs2⟩ := ok
  intro H locs ls cells slots h1 h2 hG hS hP
  exact lv_dup2_11 hx hb hd hc hc2 (kk H locs ls cells slots h1 h2 hG hS hP)
theorem Z.if_eq {g : Gx} {x : Cx} {own : String} {cc : ByteArray} {nL lv : Nat} {ret : Option FieldType} {pc : Nat} {L : List (Option Value)} {st : List Value} {w : Wd} {kc ks : Nat} {x0 : Int32} {off : Int} {tgt : Nat} (ok : OK g x own cc nL lv ret) (hd : decode cc pc = .ok (.ifCond .eq off, 3)) (ht : (pc : Int) + off = (tgt : Int)) (kt : x0 = 0 → Z g x nL (tgt) (L) (st) w kc ks) (kf : ¬ x0 = 0 → Z g x nL (pc + 3) (L) (st) w kc ks) : Z g x nL pc L (.int x0 :: st) w kc ks := by
  obtain ⟨p, e, R, s, m, args, below, meth, c, Q⟩ := x
  obtain ⟨hx, hb, hml, hown, hts, hK, hlk, hret, hfr, hlo, hs1, hs2⟩ := ok
  intro H locs ls cells slots h1 h2 hG hS hP
  exact lv_if_eq hx hb hd ht (fun q => kt q H locs ls cells slots h1 h2 hG hS hP) (fun q => kf q H locs ls cells slots h1 h2 hG hS hP)
theorem Z.icmp_eq {g : Gx} {x : Cx} {own : String} {cc : ByteArray} {nL lv : Nat} {ret : Option FieldType} {pc : Nat} {L : List (Option Value)} {st : List Value} {w : Wd} {kc ks : Nat} {x0 y0 : Int32} {off : Int} {tgt : Nat} (ok : OK g x own cc nL lv ret) (hd : decode cc pc = .ok (.if_icmp .eq off, 3)) (ht : (pc : Int) + off = (tgt : Int)) (kt : x0 = y0 → Z g x nL (tgt) (L) (st) w kc ks) (kf : ¬ x0 = y0 → Z g x nL (pc + 3) (L) (st) w kc ks) : Z g x nL pc L (.int y0 :: .int x0 :: st) w kc ks := by
  obtain ⟨p, e, R, s, m, args, below, meth, c, Q⟩ := x
  obtain ⟨hx, hb, hml, hown, hts, hK, hlk, hret, hfr, hlo, hs1, hs2⟩ := ok
  intro H locs ls cells slots h1 h2 hG hS hP
  exact lv_icmp_eq hx hb hd ht (fun q => kt q H locs ls cells slots h1 h2 hG hS hP) (fun q => kf q H locs ls cells slots h1 h2 hG hS hP)
theorem Z.if_ne {g : Gx} {x : Cx} {own : String} {cc : ByteArray} {nL lv : Nat} {ret : Option FieldType} {pc : Nat} {L : List (Option Value)} {st : List Value} {w : Wd} {kc ks : Nat} {x0 : Int32} {off : Int} {tgt : Nat} (ok : OK g x own cc nL lv ret) (hd : decode cc pc = .ok (.ifCond .ne off, 3)) (ht : (pc : Int) + off = (tgt : Int)) (kt : ¬ x0 = 0 → Z g x nL (tgt) (L) (st) w kc ks) (kf : x0 = 0 → Z g x nL (pc + 3) (L) (st) w kc ks) : Z g x nL pc L (.int x0 :: st) w kc ks := by
  obtain ⟨p, e, R, s, m, args, below, meth, c, Q⟩ := x
  obtain ⟨hx, hb, hml, hown, hts, hK, hlk, hret, hfr, hlo, hs1, hs2⟩ := ok
  intro H locs ls cells slots h1 h2 hG hS hP
  exact lv_if_ne hx hb hd ht (fun q => kt q H locs ls cells slots h1 h2 hG hS hP) (fun q => kf q H locs ls cells slots h1 h2 hG hS hP)
theorem Z.icmp_ne {g : Gx} {x : Cx} {own : String} {cc : ByteArray} {nL lv : Nat} {ret : Option FieldType} {pc : Nat} {L : List (Option Value)} {st : List Value} {w : Wd} {kc ks : Nat} {x0 y0 : Int32} {off : Int} {tgt : Nat} (ok : OK g x own cc nL lv ret) (hd : decode cc pc = .ok (.if_icmp .ne off, 3)) (ht : (pc : Int) + off = (tgt : Int)) (kt : ¬ x0 = y0 → Z g x nL (tgt) (L) (st) w kc ks) (kf : x0 = y0 → Z g x nL (pc + 3) (L) (st) w kc ks) : Z g x nL pc L (.int y0 :: .int x0 :: st) w kc ks := by
  obtain ⟨p, e, R, s, m, args, below, meth, c, Q⟩ := x
  obtain ⟨hx, hb, hml, hown, hts, hK, hlk, hret, hfr, hlo, hs1, hs2⟩ := ok
  intro H locs ls cells slots h1 h2 hG hS hP
  exact lv_icmp_ne hx hb hd ht (fun q => kt q H locs ls cells slots h1 h2 hG hS hP) (fun q => kf q H locs ls cells slots h1 h2 hG hS hP)
theorem Z.if_lt {g : Gx} {x : Cx} {own : String} {cc : ByteArray} {nL lv : Nat} {ret : Option FieldType} {pc : Nat} {L : List (Option Value)} {st : List Value} {w : Wd} {kc ks : Nat} {x0 : Int32} {off : Int} {tgt : Nat} (ok : OK g x own cc nL lv ret) (hd : decode cc pc = .ok (.ifCond .lt off, 3)) (ht : (pc : Int) + off = (tgt : Int)) (kt : x0 < 0 → Z g x nL (tgt) (L) (st) w kc ks) (kf : ¬ x0 < 0 → Z g x nL (pc + 3) (L) (st) w kc ks) : Z g x nL pc L (.int x0 :: st) w kc ks := by
  obtain ⟨p, e, R, s, m, args, below, meth, c, Q⟩ := x
  obtain ⟨hx, hb, hml, hown, hts, hK, hlk, hret, hfr, hlo, hs1, hs2⟩ := ok
  intro H locs ls cells slots h1 h2 hG hS hP
  exact lv_if_lt hx hb hd ht (fun q => kt q H locs ls cells slots h1 h2 hG hS hP) (fun q => kf q H locs ls cells slots h1 h2 hG hS hP)
theorem Z.icmp_lt {g : Gx} {x : Cx} {own : String} {cc : ByteArray} {nL lv : Nat} {ret : Option FieldType} {pc : Nat} {L : List (Option Value)} {st : List Value} {w : Wd} {kc ks : Nat} {x0 y0 : Int32} {off : Int} {tgt : Nat} (ok : OK g x own cc nL lv ret) (hd : decode cc pc = .ok (.if_icmp .lt off, 3)) (ht : (pc : Int) + off = (tgt : Int)) (kt : x0 < y0 → Z g x nL (tgt) (L) (st) w kc ks) (kf : ¬ x0 < y0 → Z g x nL (pc + 3) (L) (st) w kc ks) : Z g x nL pc L (.int y0 :: .int x0 :: st) w kc ks := by
  obtain ⟨p, e, R, s, m, args, below, meth, c, Q⟩ := x
  obtain ⟨hx, hb, hml, hown, hts, hK, hlk, hret, hfr, hlo, hs1, hs2⟩ := ok
  intro H locs ls cells slots h1 h2 hG hS hP
  exact lv_icmp_lt hx hb hd ht (fun q => kt q H locs ls cells slots h1 h2 hG hS hP) (fun q => kf q H locs ls cells slots h1 h2 hG hS hP)
theorem Z.if_ge {g : Gx} {x : Cx} {own : String} {cc : ByteArray} {nL lv : Nat} {ret : Option FieldType} {pc : Nat} {L : List (Option Value)} {st : List Value} {w : Wd} {kc ks : Nat} {x0 : Int32} {off : Int} {tgt : Nat} (ok : OK g x own cc nL lv ret) (hd : decode cc pc = .ok (.ifCond .ge off, 3)) (ht : (pc : Int) + off = (tgt : Int)) (kt : 0 ≤ x0 → Z g x nL (tgt) (L) (st) w kc ks) (kf : ¬ 0 ≤ x0 → Z g x nL (pc + 3) (L) (st) w kc ks) : Z g x nL pc L (.int x0 :: st) w kc ks := by
  obtain ⟨p, e, R, s, m, args, below, meth, c, Q⟩ := x
  obtain ⟨hx, hb, hml, hown, hts, hK, hlk, hret, hfr, hlo, hs1, hs2⟩ := ok
  intro H locs ls cells slots h1 h2 hG hS hP
  exact lv_if_ge hx hb hd ht (fun q => kt q H locs ls cells slots h1 h2 hG hS hP) (fun q => kf q H locs ls cells slots h1 h2 hG hS hP)
theorem Z.icmp_ge {g : Gx} {x : Cx} {own : String} {cc : ByteArray} {nL lv : Nat} {ret : Option FieldType} {pc : Nat} {L : List (Option Value)} {st : List Value} {w : Wd} {kc ks : Nat} {x0 y0 : Int32} {off : Int} {tgt : Nat} (ok : OK g x own cc nL lv ret) (hd : decode cc pc = .ok (.if_icmp .ge off, 3)) (ht : (pc : Int) + off = (tgt : Int)) (kt : y0 ≤ x0 → Z g x nL (tgt) (L) (st) w kc ks) (kf : ¬ y0 ≤ x0 → Z g x nL (pc + 3) (L) (st) w kc ks) : Z g x nL pc L (.int y0 :: .int x0 :: st) w kc ks := by
  obtain ⟨p, e, R, s, m, args, below, meth, c, Q⟩ := x
  obtain ⟨hx, hb, hml, hown, hts, hK, hlk, hret, hfr, hlo, hs1, hs2⟩ := ok
  intro H locs ls cells slots h1 h2 hG hS hP
  exact lv_icmp_ge hx hb hd ht (fun q => kt q H locs ls cells slots h1 h2 hG hS hP) (fun q => kf q H locs ls cells slots h1 h2 hG hS hP)
theorem Z.if_gt {g : Gx} {x : Cx} {own : String} {cc : ByteArray} {nL lv : Nat} {ret : Option FieldType} {pc : Nat} {L : List (Option Value)} {st : List Value} {w : Wd} {kc ks : Nat} {x0 : Int32} {off : Int} {tgt : Nat} (ok : OK g x own cc nL lv ret) (hd : decode cc pc = .ok (.ifCond .gt off, 3)) (ht : (pc : Int) + off = (tgt : Int)) (kt : 0 < x0 → Z g x nL (tgt) (L) (st) w kc ks) (kf : ¬ 0 < x0 → Z g x nL (pc + 3) (L) (st) w kc ks) : Z g x nL pc L (.int x0 :: st) w kc ks := by
  obtain ⟨p, e, R, s, m, args, below, meth, c, Q⟩ := x
  obtain ⟨hx, hb, hml, hown, hts, hK, hlk, hret, hfr, hlo, hs1, hs2⟩ := ok
  intro H locs ls cells slots h1 h2 hG hS hP
  exact lv_if_gt hx hb hd ht (fun q => kt q H locs ls cells slots h1 h2 hG hS hP) (fun q => kf q H locs ls cells slots h1 h2 hG hS hP)
theorem Z.icmp_gt {g : Gx} {x : Cx} {own : String} {cc : ByteArray} {nL lv : Nat} {ret : Option FieldType} {pc : Nat} {L : List (Option Value)} {st : List Value} {w : Wd} {kc ks : Nat} {x0 y0 : Int32} {off : Int} {tgt : Nat} (ok : OK g x own cc nL lv ret) (hd : decode cc pc = .ok (.if_icmp .gt off, 3)) (ht : (pc : Int) + off = (tgt : Int)) (kt : y0 < x0 → Z g x nL (tgt) (L) (st) w kc ks) (kf : ¬ y0 < x0 → Z g x nL (pc + 3) (L) (st) w kc ks) : Z g x nL pc L (.int y0 :: .int x0 :: st) w kc ks := by
  obtain ⟨p, e, R, s, m, args, below, meth, c, Q⟩ := x
  obtain ⟨hx, hb, hml, hown, hts, hK, hlk, hret, hfr, hlo, hs1, hs2⟩ := ok
  intro H locs ls cells slots h1 h2 hG hS hP
  exact lv_icmp_gt hx hb hd ht (fun q => kt q H locs ls cells slots h1 h2 hG hS hP) (fun q => kf q H locs ls cells slots h1 h2 hG hS hP)
theorem Z.if_le {g : Gx} {x : Cx} {own : String} {cc : ByteArray} {nL lv : Nat} {ret : Option FieldType} {pc : Nat} {L : List (Option Value)} {st : List Value} {w : Wd} {kc ks : Nat} {x0 : Int32} {off : Int} {tgt : Nat} (ok : OK g x own cc nL lv ret) (hd : decode cc pc = .ok (.ifCond .le off, 3)) (ht : (pc : Int) + off = (tgt : Int)) (kt : x0 ≤ 0 → Z g x nL (tgt) (L) (st) w kc ks) (kf : ¬ x0 ≤ 0 → Z g x nL (pc + 3) (L) (st) w kc ks) : Z g x nL pc L (.int x0 :: st) w kc ks := by
  obtain ⟨p, e, R, s, m, args, below, meth, c, Q⟩ := x
  obtain ⟨hx, hb, hml, hown, hts, hK, hlk, hret, hfr, hlo, hs1, hs2⟩ := ok
  intro H locs ls cells slots h1 h2 hG hS hP
  exact lv_if_le hx hb hd ht (fun q => kt q H locs ls cells slots h1 h2 hG hS hP) (fun q => kf q H locs ls cells slots h1 h2 hG hS hP)
theorem Z.icmp_le {g : Gx} {x : Cx} {own : String} {cc : ByteArray} {nL lv : Nat} {ret : Option FieldType} {pc : Nat} {L : List (Option Value)} {st : List Value} {w : Wd} {kc ks : Nat} {x0 y0 : Int32} {off : Int} {tgt : Nat} (ok : OK g x own cc nL lv ret) (hd : decode cc pc = .ok (.if_icmp .le off, 3)) (ht : (pc : Int) + off = (tgt : Int)) (kt : x0 ≤ y0 → Z g x nL (tgt) (L) (st) w kc ks) (kf : ¬ x0 ≤ y0 → Z g x nL (pc + 3) (L) (st) w kc ks) : Z g x nL pc L (.int y0 :: .int x0 :: st) w kc ks := by
  obtain ⟨p, e, R, s, m, args, below, meth, c, Q⟩ := x
  obtain ⟨hx, hb, hml, hown, hts, hK, hlk, hret, hfr, hlo, hs1, hs2⟩ := ok
  intro H locs ls cells slots h1 h2 hG hS hP
  exact lv_icmp_le hx hb hd ht (fun q => kt q H locs ls cells slots h1 h2 hG hS hP) (fun q => kf q H locs ls cells slots h1 h2 hG hS hP)
theorem Z.acmp_eq {g : Gx} {x : Cx} {own : String} {cc : ByteArray} {nL lv : Nat} {ret : Option FieldType} {pc : Nat} {L : List (Option Value)} {st : List Value} {w : Wd} {kc ks : Nat} {rx ry : Option Nat} {off : Int} {tgt : Nat} (ok : OK g x own cc nL lv ret) (hd : decode cc pc = .ok (.if_acmp .eq off, 3)) (ht : (pc : Int) + off = (tgt : Int)) (kt : rx = ry → Z g x nL (tgt) (L) (st) w kc ks) (kf : ¬ rx = ry → Z g x nL (pc + 3) (L) (st) w kc ks) : Z g x nL pc L (va_rf ry :: va_rf rx :: st) w kc ks := by
  obtain ⟨p, e, R, s, m, args, below, meth, c, Q⟩ := x
  obtain ⟨hx, hb, hml, hown, hts, hK, hlk, hret, hfr, hlo, hs1, hs2⟩ := ok
  intro H locs ls cells slots h1 h2 hG hS hP
  exact lv_acmp_eq hx hb hd ht (fun q => kt q H locs ls cells slots h1 h2 hG hS hP) (fun q => kf q H locs ls cells slots h1 h2 hG hS hP)
theorem Z.acmp_ne {g : Gx} {x : Cx} {own : String} {cc : ByteArray} {nL lv : Nat} {ret : Option FieldType} {pc : Nat} {L : List (Option Value)} {st : List Value} {w : Wd} {kc ks : Nat} {rx ry : Option Nat} {off : Int} {tgt : Nat} (ok : OK g x own cc nL lv ret) (hd : decode cc pc = .ok (.if_acmp .ne off, 3)) (ht : (pc : Int) + off = (tgt : Int)) (kt : ¬ rx = ry → Z g x nL (tgt) (L) (st) w kc ks) (kf : rx = ry → Z g x nL (pc + 3) (L) (st) w kc ks) : Z g x nL pc L (va_rf ry :: va_rf rx :: st) w kc ks := by
  obtain ⟨p, e, R, s, m, args, below, meth, c, Q⟩ := x
  obtain ⟨hx, hb, hml, hown, hts, hK, hlk, hret, hfr, hlo, hs1, hs2⟩ := ok
  intro H locs ls cells slots h1 h2 hG hS hP
  exact lv_acmp_ne hx hb hd ht (fun q => kt q H locs ls cells slots h1 h2 hG hS hP) (fun q => kf q H locs ls cells slots h1 h2 hG hS hP)
theorem Z.goto {g : Gx} {x : Cx} {own : String} {cc : ByteArray} {nL lv : Nat} {ret : Option FieldType} {pc : Nat} {L : List (Option Value)} {st : List Value} {w : Wd} {kc ks : Nat} {off : Int} {tgt : Nat} (ok : OK g x own cc nL lv ret) (hd : decode cc pc = .ok (.goto off, 3)) (ht : (pc : Int) + off = (tgt : Int)) (kk : Z g x nL (tgt) (L) (st) w kc ks) : Z g x nL pc L (st) w kc ks := by
  obtain ⟨p, e, R, s, m, args, below, meth, c, Q⟩ := x
  obtain ⟨hx, hb, hml, hown, hts, hK, hlk, hret, hfr, hlo, hs1, hs2⟩ := ok
  intro H locs ls cells slots h1 h2 hG hS hP
  exact lv_goto hx hb hd ht (kk H locs ls cells slots h1 h2 hG hS hP)
theorem Z.ifnullR {g : Gx} {x : Cx} {own : String} {cc : ByteArray} {nL lv : Nat} {ret : Option FieldType} {pc : Nat} {L : List (Option Value)} {st : List Value} {w : Wd} {kc ks : Nat} {a : Nat} {off : Int} (ok : OK g x own cc nL lv ret) (hd : decode cc pc = .ok (.ifnull off, 3)) (kk : Z g x nL (pc + 3) (L) (st) w kc ks) : Z g x nL pc L (.ref a :: st) w kc ks := by
  obtain ⟨p, e, R, s, m, args, below, meth, c, Q⟩ := x
  obtain ⟨hx, hb, hml, hown, hts, hK, hlk, hret, hfr, hlo, hs1, hs2⟩ := ok
  intro H locs ls cells slots h1 h2 hG hS hP
  exact lv_ifnull hx hb hd (kk H locs ls cells slots h1 h2 hG hS hP)
theorem Z.ifnullN {g : Gx} {x : Cx} {own : String} {cc : ByteArray} {nL lv : Nat} {ret : Option FieldType} {pc : Nat} {L : List (Option Value)} {st : List Value} {w : Wd} {kc ks : Nat} {off : Int} {tgt : Nat} (ok : OK g x own cc nL lv ret) (hd : decode cc pc = .ok (.ifnull off, 3)) (ht : (pc : Int) + off = (tgt : Int)) (kk : Z g x nL (tgt) (L) (st) w kc ks) : Z g x nL pc L (.null :: st) w kc ks := by
  obtain ⟨p, e, R, s, m, args, below, meth, c, Q⟩ := x
  obtain ⟨hx, hb, hml, hown, hts, hK, hlk, hret, hfr, hlo, hs1, hs2⟩ := ok
  intro H locs ls cells slots h1 h2 hG hS hP
  exact lv_ifnullN hx hb hd ht (kk H locs ls cells slots h1 h2 hG hS hP)
theorem Z.ifnonnullR {g : Gx} {x : Cx} {own : String} {cc : ByteArray} {nL lv : Nat} {ret : Option FieldType} {pc : Nat} {L : List (Option Value)} {st : List Value} {w : Wd} {kc ks : Nat} {a : Nat} {off : Int} {tgt : Nat} (ok : OK g x own cc nL lv ret) (hd : decode cc pc = .ok (.ifnonnull off, 3)) (ht : (pc : Int) + off = (tgt : Int)) (kk : Z g x nL (tgt) (L) (st) w kc ks) : Z g x nL pc L (.ref a :: st) w kc ks := by
  obtain ⟨p, e, R, s, m, args, below, meth, c, Q⟩ := x
  obtain ⟨hx, hb, hml, hown, hts, hK, hlk, hret, hfr, hlo, hs1, hs2⟩ := ok
  intro H locs ls cells slots h1 h2 hG hS hP
  exact lv_ifnonnull hx hb hd ht (kk H locs ls cells slots h1 h2 hG hS hP)
theorem Z.ifnonnullN {g : Gx} {x : Cx} {own : String} {cc : ByteArray} {nL lv : Nat} {ret : Option FieldType} {pc : Nat} {L : List (Option Value)} {st : List Value} {w : Wd} {kc ks : Nat} {off : Int} (ok : OK g x own cc nL lv ret) (hd : decode cc pc = .ok (.ifnonnull off, 3)) (kk : Z g x nL (pc + 3) (L) (st) w kc ks) : Z g x nL pc L (.null :: st) w kc ks := by
  obtain ⟨p, e, R, s, m, args, below, meth, c, Q⟩ := x
  obtain ⟨hx, hb, hml, hown, hts, hK, hlk, hret, hfr, hlo, hs1, hs2⟩ := ok
  intro H locs ls cells slots h1 h2 hG hS hP
  exact lv_ifnonnullN hx hb hd (kk H locs ls cells slots h1 h2 hG hS hP)
theorem Z.ifnull {g : Gx} {x : Cx} {own : String} {cc : ByteArray} {nL lv : Nat} {ret : Option FieldType} {pc : Nat} {L : List (Option Value)} {st : List Value} {w : Wd} {kc ks : Nat} {r : Option Nat} {off : Int} {tgt : Nat} (ok : OK g x own cc nL lv ret) (hd : decode cc pc = .ok (.ifnull off, 3)) (ht : (pc : Int) + off = (tgt : Int)) (kn : r = none → Z g x nL tgt L st w kc ks) (kr : ∀ a : Nat, r = some a → Z g x nL (pc + 3) L st w kc ks) : Z g x nL pc L (va_rf r :: st) w kc ks := by
  cases r with
  | none => exact Z.ifnullN ok hd ht (kn rfl)
  | some a => exact Z.ifnullR ok hd (kr a rfl)
theorem Z.ifnonnull {g : Gx} {x : Cx} {own : String} {cc : ByteArray} {nL lv : Nat} {ret : Option FieldType} {pc : Nat} {L : List (Option Value)} {st : List Value} {w : Wd} {kc ks : Nat} {r : Option Nat} {off : Int} {tgt : Nat} (ok : OK g x own cc nL lv ret) (hd : decode cc pc = .ok (.ifnonnull off, 3)) (ht : (pc : Int) + off = (tgt : Int)) (kr : ∀ a : Nat, r = some a → Z g x nL tgt L st w kc ks) (kn : r = none → Z g x nL (pc + 3) L st w kc ks) : Z g x nL pc L (va_rf r :: st) w kc ks := by
  cases r with
  | none => exact Z.ifnonnullN ok hd (kn rfl)
  | some a => exact Z.ifnonnullR ok hd ht (kr a rfl)
theorem Z.ldc {g : Gx} {x : Cx} {own : String} {cc : ByteArray} {nL lv : Nat} {ret : Option FieldType} {pc : Nat} {L : List (Option Value)} {st : List Value} {w : Wd} {kc ks : Nat} {index : Nat} {v : Int32} (ok : OK g x own cc nL lv ret) (hc : Cond.constant own index v ∈ lw_all) (hd : decode cc pc = .ok (.ldc index, 2)) (kk : Z g x nL (pc + 2) (L) (.int v :: st) w kc ks) : Z g x nL pc L (st) w kc ks := by
  obtain ⟨p, e, R, s, m, args, below, meth, c, Q⟩ := x
  obtain ⟨hx, hb, hml, hown, hts, hK, hlk, hret, hfr, hlo, hs1, hs2⟩ := ok
  intro H locs ls cells slots h1 h2 hG hS hP
  exact lv_ldc hx hb hown (hts _ hc) hd (kk H locs ls cells slots h1 h2 hG hS hP)
theorem Z.ldcw {g : Gx} {x : Cx} {own : String} {cc : ByteArray} {nL lv : Nat} {ret : Option FieldType} {pc : Nat} {L : List (Option Value)} {st : List Value} {w : Wd} {kc ks : Nat} {index : Nat} {v : Int32} (ok : OK g x own cc nL lv ret) (hc : Cond.constant own index v ∈ lw_all) (hd : decode cc pc = .ok (.ldc_w index, 3)) (kk : Z g x nL (pc + 3) (L) (.int v :: st) w kc ks) : Z g x nL pc L (st) w kc ks := by
  obtain ⟨p, e, R, s, m, args, below, meth, c, Q⟩ := x
  obtain ⟨hx, hb, hml, hown, hts, hK, hlk, hret, hfr, hlo, hs1, hs2⟩ := ok
  intro H locs ls cells slots h1 h2 hG hS hP
  exact lv_ldcw hx hb hown (hts _ hc) hd (kk H locs ls cells slots h1 h2 hG hS hP)
theorem Z.ldcf {g : Gx} {x : Cx} {own : String} {cc : ByteArray} {nL lv : Nat} {ret : Option FieldType} {pc : Nat} {L : List (Option Value)} {st : List Value} {w : Wd} {kc ks : Nat} {index : Nat} {v : UInt32} (ok : OK g x own cc nL lv ret) (hc : Cond.constantFloat own index v ∈ lw_all) (hd : decode cc pc = .ok (.ldc index, 2)) (kk : Z g x nL (pc + 2) (L) (.float v :: st) w kc ks) : Z g x nL pc L (st) w kc ks := by
  obtain ⟨p, e, R, s, m, args, below, meth, c, Q⟩ := x
  obtain ⟨hx, hb, hml, hown, hts, hK, hlk, hret, hfr, hlo, hs1, hs2⟩ := ok
  intro H locs ls cells slots h1 h2 hG hS hP
  exact lv_ldcf hx hb hown (hts _ hc) hd (kk H locs ls cells slots h1 h2 hG hS hP)
theorem Z.castN {g : Gx} {x : Cx} {own : String} {cc : ByteArray} {nL lv : Nat} {ret : Option FieldType} {pc : Nat} {L : List (Option Value)} {st : List Value} {w : Wd} {kc ks : Nat} {index : Nat} (ok : OK g x own cc nL lv ret) (hd : decode cc pc = .ok (.checkcast index, 3)) (kk : Z g x nL (pc + 3) (L) (.null :: st) w kc ks) : Z g x nL pc L (.null :: st) w kc ks := by
  obtain ⟨p, e, R, s, m, args, below, meth, c, Q⟩ := x
  obtain ⟨hx, hb, hml, hown, hts, hK, hlk, hret, hfr, hlo, hs1, hs2⟩ := ok
  intro H locs ls cells slots h1 h2 hG hS hP
  exact lv_castN hx hb hd (kk H locs ls cells slots h1 h2 hG hS hP)
theorem Z.instN {g : Gx} {x : Cx} {own : String} {cc : ByteArray} {nL lv : Nat} {ret : Option FieldType} {pc : Nat} {L : List (Option Value)} {st : List Value} {w : Wd} {kc ks : Nat} {index : Nat} (ok : OK g x own cc nL lv ret) (hd : decode cc pc = .ok (.instanceof index, 3)) (kk : Z g x nL (pc + 3) (L) (.int 0 :: st) w kc ks) : Z g x nL pc L (.null :: st) w kc ks := by
  obtain ⟨p, e, R, s, m, args, below, meth, c, Q⟩ := x
  obtain ⟨hx, hb, hml, hown, hts, hK, hlk, hret, hfr, hlo, hs1, hs2⟩ := ok
  intro H locs ls cells slots h1 h2 hG hS hP
  exact lv_instN hx hb hd (kk H locs ls cells slots h1 h2 hG hS hP)
theorem Z.tableOut {g : Gx} {x : Cx} {own : String} {cc : ByteArray} {nL lv : Nat} {ret : Option FieldType} {pc : Nat} {L : List (Option Value)} {st : List Value} {w : Wd} {kc ks : Nat} {dflt lo hi : Int} {offs : Array Int} {len : Nat} {v : Int32} {tgt : Nat} (ok : OK g x own cc nL lv ret) (hd : decode cc pc = .ok (.tableswitch dflt lo hi offs, len)) (h : v.toInt < lo ∨ hi < v.toInt) (ht : (pc : Int) + dflt = (tgt : Int)) (kk : Z g x nL (tgt) (L) (st) w kc ks) : Z g x nL pc L (.int v :: st) w kc ks := by
  obtain ⟨p, e, R, s, m, args, below, meth, c, Q⟩ := x
  obtain ⟨hx, hb, hml, hown, hts, hK, hlk, hret, hfr, hlo, hs1, hs2⟩ := ok
  intro H locs ls cells slots h1 h2 hG hS hP
  exact lv_tableOut hx hb hd h ht (kk H locs ls cells slots h1 h2 hG hS hP)
theorem Z.tableIn {g : Gx} {x : Cx} {own : String} {cc : ByteArray} {nL lv : Nat} {ret : Option FieldType} {pc : Nat} {L : List (Option Value)} {st : List Value} {w : Wd} {kc ks : Nat} {dflt lo hi : Int} {offs : Array Int} {len : Nat} {v : Int32} {off : Int} {tgt : Nat} (ok : OK g x own cc nL lv ret) (hd : decode cc pc = .ok (.tableswitch dflt lo hi offs, len)) (hl1 : ¬ v.toInt < lo) (hl2 : ¬ hi < v.toInt) (ho : offs[(v.toInt - lo).toNat]? = some off) (ht : (pc : Int) + off = (tgt : Int)) (kk : Z g x nL (tgt) (L) (st) w kc ks) : Z g x nL pc L (.int v :: st) w kc ks := by
  obtain ⟨p, e, R, s, m, args, below, meth, c, Q⟩ := x
  obtain ⟨hx, hb, hml, hown, hts, hK, hlk, hret, hfr, hlo, hs1, hs2⟩ := ok
  intro H locs ls cells slots h1 h2 hG hS hP
  exact lv_tableIn hx hb hd hl1 hl2 ho ht (kk H locs ls cells slots h1 h2 hG hS hP)
theorem Z.lookup {g : Gx} {x : Cx} {own : String} {cc : ByteArray} {nL lv : Nat} {ret : Option FieldType} {pc : Nat} {L : List (Option Value)} {st : List Value} {w : Wd} {kc ks : Nat} {dflt : Int} {ps : Array (Int × Int)} {len : Nat} {v : Int32} {off : Int} {tgt : Nat} (ok : OK g x own cc nL lv ret) (hd : decode cc pc = .ok (.lookupswitch dflt ps, len)) (hp : (ps.toList.zip (ps.toList.drop 1)).all (fun (a, next) => a.1 < next.1) = true) (ho : Op.lookupswitch.offset ps.toList dflt v.toInt = off) (ht : (pc : Int) + off = (tgt : Int)) (kk : Z g x nL (tgt) (L) (st) w kc ks) : Z g x nL pc L (.int v :: st) w kc ks := by
  obtain ⟨p, e, R, s, m, args, below, meth, c, Q⟩ := x
  obtain ⟨hx, hb, hml, hown, hts, hK, hlk, hret, hfr, hlo, hs1, hs2⟩ := ok
  intro H locs ls cells slots h1 h2 hG hS hP
  exact lv_lookup hx hb hd hp ho ht (kk H locs ls cells slots h1 h2 hG hS hP)
