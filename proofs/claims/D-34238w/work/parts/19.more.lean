/-! ===== MORE RULES: static tables, class objects, arraycopy, Math, String constants ===== -/
theorem KK.keep {g : Gx} {x : Cx} {own : String} {cc : ByteArray} {nL lv : Nat} {ret : Option FieldType} (ok : OK g x own cc nL lv ret) : True := trivial
/-- a table's length (an array that is constant) -/
theorem Z.tlen {g : Gx} {x : Cx} {own : String} {cc : ByteArray} {nL lv : Nat} {ret : Option FieldType} {pc : Nat} {L : List (Option Value)} {st : List Value} {w : Wd} {kc ks : Nat} {t N : Nat} {ty : FieldType} {f : Nat → Value} (ok : OK g x own cc nL lv ret) (hZ : ∀ U : State, KK g U → va_T ty t N f (AA g) U (gH g)) (hd : decode cc pc = .ok (.arraylength, 1)) (kk : Z g x nL (pc + 1) L (.int (nI N) :: st) w kc ks) : Z g x nL pc L (.ref t :: st) w kc ks := by
  obtain ⟨p, e, R, s, m, args, below, meth, c, Q⟩ := x
  obtain ⟨hx, hb, hml, hown, hts, hK, hlk, hret, hfr, hlo, hs1, hs2⟩ := ok
  intro H locs ls cells slots h1 h2 hG hS hP
  exact va_tlen hx hb ((hZ s hK).kept (fun a ha _ => hs2 a ha)) hS rfl hd (kk H locs ls cells slots h1 h2 hG hS hP)
theorem Z.tbald {g : Gx} {x : Cx} {own : String} {cc : ByteArray} {nL lv : Nat} {ret : Option FieldType} {pc : Nat} {L : List (Option Value)} {st : List Value} {w : Wd} {kc ks : Nat} {t N j : Nat} {f : Nat → Int32} (ok : OK g x own cc nL lv ret) (hZ : ∀ U : State, KK g U → va_T .byte t N (fun j => .int (f j)) (AA g) U (gH g)) (hj : j < N) (hN : N < 2 ^ 31) (hd : decode cc pc = .ok (.baload, 1)) (kk : Z g x nL (pc + 1) L (.int (f j) :: st) w kc ks) : Z g x nL pc L (.int (nI j) :: .ref t :: st) w kc ks := by
  obtain ⟨p, e, R, s, m, args, below, meth, c, Q⟩ := x
  obtain ⟨hx, hb, hml, hown, hts, hK, hlk, hret, hfr, hlo, hs1, hs2⟩ := ok
  intro H locs ls cells slots h1 h2 hG hS hP
  exact va_tb hx hb ((hZ s hK).kept (fun a ha _ => hs2 a ha)) hS (vp_in_nI hj hN) (by show Value.int (f (nI j).toNatClampNeg) = _; rw [nI_clamp (by omega)]) hd (kk H locs ls cells slots h1 h2 hG hS hP)
/-- a class constant -/
theorem Z.ldcM {g : Gx} {x : Cx} {own : String} {cc : ByteArray} {nL lv : Nat} {ret : Option FieldType} {pc : Nat} {L : List (Option Value)} {st : List Value} {w : Wd} {kc ks : Nat} {C : String} {index mi : Nat} (ok : OK g x own cc nL lv ret) (hlink : Cond.classLink own index C ∈ lw_all) (hM : ∀ U : State, KK g U → va_Mi C mi U) (hd : decode cc pc = .ok (.ldc index, 2)) (kk : Z g x nL (pc + 2) L (.ref mi :: st) w kc ks) : Z g x nL pc L st w kc ks := by
  obtain ⟨p, e, R, s, m, args, below, meth, c, Q⟩ := x
  obtain ⟨hx, hb, hml, hown, hts, hK, hlk, hret, hfr, hlo, hs1, hs2⟩ := ok
  intro H locs ls cells slots h1 h2 hG hS hP
  exact va_ldcM hx hb hown (hts _ hlink) (hM s hK) hd (kk H locs ls cells slots h1 h2 hG hS hP)
/-- a String constant -/
theorem Z.ldcS {g : Gx} {x : Cx} {own : String} {cc : ByteArray} {nL lv : Nat} {ret : Option FieldType} {pc : Nat} {L : List (Option Value)} {st : List Value} {w : Wd} {kc ks : Nat} {tx : String} {index q : Nat} (ok : OK g x own cc nL lv ret) (hM : ∀ U : State, KK g U → vk_R own index tx q U) (hd : decode cc pc = .ok (.ldc index, 2)) (kk : Z g x nL (pc + 2) L (.ref q :: st) w kc ks) : Z g x nL pc L st w kc ks := by
  obtain ⟨p, e, R, s, m, args, below, meth, c, Q⟩ := x
  obtain ⟨hx, hb, hml, hown, hts, hK, hlk, hret, hfr, hlo, hs1, hs2⟩ := ok
  intro H locs ls cells slots h1 h2 hG hS hP
  exact va_ldcS hx hb hown (hM s hK) hd (kk H locs ls cells slots h1 h2 hG hS hP)
/-- getClass() of an array of Object -/
theorem Z.getC {g : Gx} {x : Cx} {own : String} {cc : ByteArray} {nL lv : Nat} {ret : Option FieldType} {pc : Nat} {L : List (Option Value)} {st : List Value} {w : Wd} {kc ks : Nat} {index a t n mi : Nat} {f : Nat → Option Nat} (ok : OK g x own cc nL lv ret) (hw : w a = some (eO g n f, t)) (hlink : Cond.methodLink own index ⟨"java/lang/Object", "getClass", "()Ljava/lang/Class;"⟩ ∈ lw_all) (hdecl : Cond.declares ⟨"java/lang/Object", "getClass", "()Ljava/lang/Class;"⟩ ∈ lw_tbl) (hsel : Cond.selects "[Ljava/lang/Object;" ⟨"java/lang/Object", "getClass", "()Ljava/lang/Class;"⟩ ⟨"java/lang/Object", "getClass", "()Ljava/lang/Class;"⟩ ∈ lw_all) (hinst : Cond.instanceMethod ⟨"java/lang/Object", "getClass", "()Ljava/lang/Class;"⟩ ∈ lw_all) (hnat : Cond.native ⟨"java/lang/Object", "getClass", "()Ljava/lang/Class;"⟩ ∈ lw_all) (hM : ∀ U : State, KK g U → va_Mi "[Ljava/lang/Object;" mi U) (hlv : 0 < lv) (hrest : (st.map fun v => v.category).sum ≤ 8) (hd : decode cc pc = .ok (.invokevirtual index, 3)) (kk : Z g x nL (pc + 3) L (.ref mi :: st) w kc ks) : Z g x nL pc L (.ref a :: st) w kc ks := by
  obtain ⟨p, e, R, s, m, args, below, meth, c, Q⟩ := x
  obtain ⟨hx, hb, hml, hown, hts, hK, hlk, hret, hfr, hlo, hs1, hs2⟩ := ok
  intro H locs ls cells slots h1 h2 hG hS hP
  have hc0 : H[a]? = some (vp_cell (gA g 4) (n, .inr (.inr (.inr (.inr f))))) := hG.one hw 0 _ rfl
  exact va_getC hx hb (by rw [hml, hP.1]) hown (hts _ hlink) (va_Nw.use rfl (hK.2.2.2.2.2.2.2.2.1 _ hdecl)) (hts _ hsel) (hts _ hinst) (hts _ hnat) (hM s hK) ⟨_, hc0, rfl, by show s.vm.findClass _ = some (gA g 4); exact va_nmO (hK.k.2 4 _ rfl).2 rfl⟩ (by omega) (by omega) hd (kk H locs ls cells slots h1 h2 hG hS hP)
theorem Z.mmax {g : Gx} {x : Cx} {own : String} {cc : ByteArray} {nL lv : Nat} {ret : Option FieldType} {pc : Nat} {L : List (Option Value)} {st : List Value} {w : Wd} {kc ks : Nat} {index : Nat} {x0 y0 : Int32} (ok : OK g x own cc nL lv ret) (hl : Cond.methodLink own index Lib.Math.max.name ∈ lw_all) (hst : Cond.static Lib.Math.max.name ∈ lw_all) (hini : Cond.initialized "java/lang/Math" ∈ lw_all) (hcd : Cond.code Lib.Math.max.name Lib.Math.max.code 2 (some .int) ∈ lw_all) (hlv : 0 < lv) (hrest : (st.map fun v => v.category).sum ≤ 8) (hd : decode cc pc = .ok (.invokestatic index, 3)) (kk : Z g x nL (pc + 3) L (.int (if x0 < y0 then y0 else x0) :: st) w kc ks) : Z g x nL pc L (.int y0 :: .int x0 :: st) w kc ks := by
  obtain ⟨p, e, R, s, m, args, below, meth, c, Q⟩ := x
  obtain ⟨hx, hb, hml, hown, hts, hK, hlk, hret, hfr, hlo, hs1, hs2⟩ := ok
  intro H locs ls cells slots h1 h2 hG hS hP
  exact va_mmax hx hb (by rw [hml, hP.1]) hown (hts _ hl) (hts _ hst) (hts _ hini) (hts _ hcd) (by omega) (by omega) (by omega) (by omega) hd (kk H locs ls cells slots h1 h2 hG hS hP)
theorem Z.mmin {g : Gx} {x : Cx} {own : String} {cc : ByteArray} {nL lv : Nat} {ret : Option FieldType} {pc : Nat} {L : List (Option Value)} {st : List Value} {w : Wd} {kc ks : Nat} {index : Nat} {x0 y0 : Int32} (ok : OK g x own cc nL lv ret) (hl : Cond.methodLink own index Lib.Math.min.name ∈ lw_all) (hst : Cond.static Lib.Math.min.name ∈ lw_all) (hini : Cond.initialized "java/lang/Math" ∈ lw_all) (hcd : Cond.code Lib.Math.min.name Lib.Math.min.code 2 (some .int) ∈ lw_all) (hlv : 0 < lv) (hrest : (st.map fun v => v.category).sum ≤ 8) (hd : decode cc pc = .ok (.invokestatic index, 3)) (kk : Z g x nL (pc + 3) L (.int (if y0 < x0 then y0 else x0) :: st) w kc ks) : Z g x nL pc L (.int y0 :: .int x0 :: st) w kc ks := by
  obtain ⟨p, e, R, s, m, args, below, meth, c, Q⟩ := x
  obtain ⟨hx, hb, hml, hown, hts, hK, hlk, hret, hfr, hlo, hs1, hs2⟩ := ok
  intro H locs ls cells slots h1 h2 hG hS hP
  exact va_mmin hx hb (by rw [hml, hP.1]) hown (hts _ hl) (hts _ hst) (hts _ hini) (hts _ hcd) (by omega) (by omega) (by omega) (by omega) hd (kk H locs ls cells slots h1 h2 hG hS hP)
/-- a field of a constant object -/
theorem Z.kget {g : Gx} {x : Cx} {own : String} {cc : ByteArray} {nL lv : Nat} {ret : Option FieldType} {pc : Nat} {L : List (Option Value)} {st : List Value} {w : Wd} {kc ks : Nat} {o n d ref : String} {index q : Nat} {v : Value} (ok : OK g x own cc nL lv ret) (hE : ∀ U : State, KK g U → va_OF o n d v q (AA g) U (gH g)) (hlink : Cond.fieldLink own index ref n d ∈ lw_all) (hsame : SameF ref o n d) (hd : decode cc pc = .ok (.getfield index, 3)) (kk : Z g x nL (pc + 3) L (v :: st) w kc ks) : Z g x nL pc L (.ref q :: st) w kc ks := by
  obtain ⟨p, e, R, s, m, args, below, meth, c, Q⟩ := x
  obtain ⟨hx, hb, hml, hown, hts, hK, hlk, hret, hfr, hlo, hs1, hs2⟩ := ok
  intro H locs ls cells slots h1 h2 hG hS hP
  exact vk_getf hx hb ((hE s hK).kept (fun a ha _ => hs2 a ha)) hS hown (hts _ hlink) (hsame.ok hts) hd (kk H locs ls cells slots h1 h2 hG hS hP)
/-- a String constant's own method -/
theorem Z.callVk {g : Gx} {x : Cx} {own : String} {cc : ByteArray} {nL lv : Nat} {ret : Option FieldType} {pc : Nat} {L : List (Option Value)} {st : List Value} {w : Wd} {kc ks : Nat} {y : MethodName} {cy : ByteArray} {nLy lvy mc ms n index i kc' ks' : Nat} {rety : Option FieldType} {As rest : List Value} {Post : Option Value → Wd → Prop} {PostX : String → Wd → Prop} (ok : OK g x own cc nL lv ret) (hM : Ct g y cy nLy rety lvy mc ms (.ref (gS g (3 + i)) :: As) w Post PostX) (hi : i < 3) (hC : "java/lang/String" = y.cls) (hl : Cond.methodLink own index y ∈ lw_all) (hin : Cond.instanceMethod y ∈ lw_all) (hsel : SelOk "java/lang/String" y y) (hini : Cond.initialized y.cls ∈ lw_all) (hcd : Cond.code y cy nLy rety ∈ lw_all) (hnm : NmOk y.cls y.desc n) (hn : As.length = n) (hlv : lvy < lv ∧ nLy ≤ 900) (hrest : (rest.map fun v => v.category).sum ≤ 8) (hkc : kc' + mc ≤ kc) (hks : ks' + ms ≤ ks) (hd : decode cc pc = .ok (.invokevirtual index, 3)) (hst2 : st = As.reverse ++ .ref (gS g (3 + i)) :: rest)
    (kX : ∀ (E : String) (q : Nat) (w' : Wd), PostX E w' → ZX g x nL pc L w' kc' ks' E q) (kN : ∀ (v : Option Value) (w' : Wd), Post v w' → Z g x nL (pc + 3) L (v.toList ++ rest) w' kc' ks') : Z g x nL pc L st w kc ks := by
  obtain ⟨p, e, R, s, m, args, below, meth, c, Q⟩ := x
  obtain ⟨hx, hb, hml, hown, hts, hK, hlk, hret, hfr, hlo, hs1, hs2⟩ := ok
  intro H locs ls cells slots h1 h2 hG hS hP
  have hE := hK.ss.2.2.2.2.2.2.2.2.2.2.2.1
  have hE' : vk_S 3 [1, 1, 1] [[110], [58], [43]] (fun i => gS g (3 + i)) (fun i => gS g (6 + i)) (AA g) s s.heap := hE.kept (fun a ha _ => hs2 a ha)
  refine Z.back (n3 := 3) (vx_runV (C := "java/lang/String") ⟨hx, hb, hml, hown, hts⟩ hM ⟨callB_of n hts (lw_meth hcd) rfl rfl rfl (hts _ hini) (hts _ hl) hnm (lv_fit hfr hlo hlv.1 hlv.2), hts _ hin, hsel.use hts hK⟩ ⟨Ct.blind, vk_recv hE' hi hS, fun U hU hW => Ct.pre hK hG hU hW⟩ rfl hn hP.sz hst2 (lv_room hrest) hd ⟨by omega, by omega⟩) h1 h2 hkc hks hS hP kX kN
/-- System.arraycopy of bytes, from an array of the world -/
theorem Z.copyB {g : Gx} {x : Cx} {own : String} {cc : ByteArray} {nL lv : Nat} {ret : Option FieldType} {pc : Nat} {L : List (Option Value)} {st : List Value} {w : Wd} {kc ks : Nat} {index a0 a t0 t1 n0 n1 : Nat} {f gg : Nat → Int32} {sp dp n : Int32} (g1 : ¬ sp < 0) (g2 : ¬ dp < 0) (g3 : ¬ n < 0) (g4 : sp.toNatClampNeg + n.toNatClampNeg ≤ n0) (g5 : dp.toNatClampNeg + n.toNatClampNeg ≤ n1) (ok : OK g x own cc nL lv ret) (hl : Cond.methodLink own index arraycopyName ∈ lw_all) (hst : Cond.static arraycopyName ∈ lw_all) (hnat : Cond.native arraycopyName ∈ lw_all) (hini : Cond.initialized "java/lang/System" ∈ lw_all) (hw0 : w a0 = some (eB g n0 f, t0)) (hw1 : w a = some (eB g n1 gg, t1)) (ht1 : t1 ≠ 0) (hfit : ∀ i, i < n.toNatClampNeg → fits .byte (.int (f (sp.toNatClampNeg + i))) = true) (hlv : 0 < lv) (hrest : (st.map fun v => v.category).sum ≤ 8) (hd : decode cc pc = .ok (.invokestatic index, 3)) (kk : Z g x nL (pc + 3) L st (wset w a (eB g n1 (va_cpy f gg sp.toNatClampNeg dp.toNatClampNeg n.toNatClampNeg)) t1) kc ks) : Z g x nL pc L (.int n :: .int dp :: .ref a :: .int sp :: .ref a0 :: st) w kc ks := by
  obtain ⟨p, e, R, s, m, args, below, meth, c, Q⟩ := x
  obtain ⟨hx, hb, hml, hown, hts, hK, hlk, hret, hfr, hlo, hs1, hs2⟩ := ok
  intro H locs ls cells slots h1 h2 hG hS hP
  have nn : ∀ z : Int32, ¬ z < 0 → z.toInt = (z.toNatClampNeg : Int) := by
    intro z hz
    have hz0 : (0 : Int) ≤ z.toInt := by
      have := Int32.not_lt.mp hz
      simpa using Int32.le_iff_toInt_le.mp this
    show z.toInt = ((z.toInt.toNat : Nat) : Int)
    omega
  have hnf : nativeFrameWords "java/lang/System" "arraycopy" 5 ≤ 100 := by decide +kernel
  have hA := hG.up hw1 ht1
  intro T hT X
  have hc0 : H[a0]? = some (vp_cell (gA g 2) (n0, .inl f)) := hG.one hw0 0 _ rfl
  have hc1 : H[a]? = some (vp_cell (gA g 2) (n1, .inl gg)) := hG.one hw1 0 _ rfl
  obtain ⟨-, k0, hk0, cm0, hkk0⟩ := (hK.k.2 2 _ rfl).1 n0 (fun j => .int (f j))
  obtain ⟨-, k1, hk1, cm1, hkk1⟩ := (hK.k.2 2 _ rfl).1 n1 (fun j => .int (gg j))
  obtain ⟨vm', X', step⟩ := X.arraycopy hx hown (hts _ hl) (hts _ hnat) (hts _ hst) (hts _ hini) (src := a0) (dst := a) (cs := vp_cell (gA g 2) (n0, .inl f)) (cd := vp_cell (gA g 2) (n1, .inl gg)) (srcPos := sp) (destPos := dp) (n := n) (by rw [hT]; exact hc0) (by rw [hT]; exact hc1)
    (fun _ h => by cases h) (fun _ h => by cases h) (fun h => by cases h) (fun h => by cases h) hk0 hk1 hkk0 hkk1 (by simp [refKind]) g1 g2 g3
    (by rw [nn sp g1, nn n g3]; show ¬ _ > ((arrV (gA g 2) n0 (fun j => .int (f j))).slots.size : Int); rw [arrV_size]; omega)
    (by rw [nn dp g2, nn n g3]; show ¬ _ > ((arrV (gA g 2) n1 (fun j => .int (gg j))).slots.size : Int); rw [arrV_size]; omega)
    (fun vm₁ _ i hi => by
      have e : (vp_cell (gA g 2) (n0, .inl f)).slots.getD (sp.toNatClampNeg + i) .null = .int (f (sp.toNatClampNeg + i)) := by
        show (arrV (gA g 2) n0 (fun j => .int (f j))).slots.getD _ _ = _
        rw [Array.getD_eq_getD_getElem?, arrV_read _ _ (by omega)]
        rfl
      refine ⟨?_, ?_⟩
      · rw [e]
        exact hfit i hi
      · rw [e]
        exact trivial)
    (g := F0 m pc ls (.int n :: .int dp :: .ref a :: .int sp :: .ref a0 :: st)) rfl (by rw [hml]; exact hP.1) (rest := st) rfl (by rw [hb]; exact hd) (by omega) (by show 2 * 0 + _ + _ ≤ _; omega)
  have e1 : copied (vp_cell (gA g 2) (n0, .inl f)) (vp_cell (gA g 2) (n1, .inl gg)) sp dp n = vp_cell (gA g 2) (n1, .inl (va_cpy f gg sp.toNatClampNeg dp.toNatClampNeg n.toNatClampNeg)) := va_copied (fun z => .int z) (gA g 2) (gA g 2) f gg g4
  rw [e1] at X' step
  have hl : a < H.size := (Array.getElem?_eq_some_iff.mp hc1).1
  have hheap : ((T.setVm vm').setCell a (vp_cell (gA g 2) (n1, .inl (va_cpy f gg sp.toNatClampNeg dp.toNatClampNeg n.toNatClampNeg)))).heap = H.setIfInBounds a (vp_cell (gA g 2) (n1, .inl (va_cpy f gg sp.toNatClampNeg dp.toNatClampNeg n.toNatClampNeg))) := by rw [← hT]; rfl
  have oq : ∀ q : Nat, q ≠ a → (H.setIfInBounds a (vp_cell (gA g 2) (n1, .inl (va_cpy f gg sp.toNatClampNeg dp.toNatClampNeg n.toNatClampNeg))))[q]? = H[q]? := fun q hq => by simp [Array.getElem?_setIfInBounds, Ne.symm hq]
  have hsz : (H.setIfInBounds a (vp_cell (gA g 2) (n1, .inl (va_cpy f gg sp.toNatClampNeg dp.toNatClampNeg n.toNatClampNeg)))).size = H.size := by simp
  obtain ⟨t9, a1, b1⟩ := kk _ _ ls cells slots h1 h2 (hG.set (t := t1) hA hsz oq (show (H.setIfInBounds a _)[a]? = some _ by simp [Array.getElem?_setIfInBounds, hl])) ⟨by rw [hsz]; exact hS.1, fun q g1 g2 => by
      rw [oq q (fun e => g2 (by rw [e]; exact hA))]
      exact hS.2.1 q g1 g2, fun q hq => by
      rcases List.mem_append.mp hq with h | h
      · exact hS.2.2 q h
      · obtain ⟨z, -, hz⟩ := List.mem_map.mp h
        rw [← hz]
        exact hA⟩ hP _ hheap X'
  exact ⟨t9, step t9 a1, b1⟩
/-- .. from a constant -/
theorem Z.copyK {g : Gx} {x : Cx} {own : String} {cc : ByteArray} {nL lv : Nat} {ret : Option FieldType} {pc : Nat} {L : List (Option Value)} {st : List Value} {w : Wd} {kc ks : Nat} {index a0 a t1 n0 n1 : Nat} {f gg : Nat → Int32} {sp dp n : Int32} (g1 : ¬ sp < 0) (g2 : ¬ dp < 0) (g3 : ¬ n < 0) (g4 : sp.toNatClampNeg + n.toNatClampNeg ≤ n0) (g5 : dp.toNatClampNeg + n.toNatClampNeg ≤ n1) (ok : OK g x own cc nL lv ret) (hl : Cond.methodLink own index arraycopyName ∈ lw_all) (hst : Cond.static arraycopyName ∈ lw_all) (hnat : Cond.native arraycopyName ∈ lw_all) (hini : Cond.initialized "java/lang/System" ∈ lw_all) (hZ : ∀ U : State, KK g U → va_T .byte a0 n0 (fun j => .int (f j)) (AA g) U (gH g)) (hw1 : w a = some (eB g n1 gg, t1)) (ht1 : t1 ≠ 0) (hfit : ∀ i, i < n.toNatClampNeg → fits .byte (.int (f (sp.toNatClampNeg + i))) = true) (hlv : 0 < lv) (hrest : (st.map fun v => v.category).sum ≤ 8) (hd : decode cc pc = .ok (.invokestatic index, 3)) (kk : Z g x nL (pc + 3) L st (wset w a (eB g n1 (va_cpy f gg sp.toNatClampNeg dp.toNatClampNeg n.toNatClampNeg)) t1) kc ks) : Z g x nL pc L (.int n :: .int dp :: .ref a :: .int sp :: .ref a0 :: st) w kc ks := by
  obtain ⟨p, e, R, s, m, args, below, meth, c, Q⟩ := x
  obtain ⟨hx, hb, hml, hown, hts, hK, hlk, hret, hfr, hlo, hs1, hs2⟩ := ok
  intro H locs ls cells slots h1 h2 hG hS hP
  have nn : ∀ z : Int32, ¬ z < 0 → z.toInt = (z.toNatClampNeg : Int) := by
    intro z hz
    have hz0 : (0 : Int) ≤ z.toInt := by
      have := Int32.not_lt.mp hz
      simpa using Int32.le_iff_toInt_le.mp this
    show z.toInt = ((z.toInt.toNat : Nat) : Int)
    omega
  have hnf : nativeFrameWords "java/lang/System" "arraycopy" 5 ≤ 100 := by decide +kernel
  have hA := hG.up hw1 ht1
  have hX : va_T .byte a0 n0 (fun j => .int (f j)) (AA g) s s.heap := (hZ s hK).kept (fun a ha _ => hs2 a ha)
  intro T hT X
  obtain ⟨scr, hs1, hs2, hs3, hs4, -, hs5, hs7⟩ := hX
  have hc0 : H[a0]? = some scr := by rw [hS.2.1 a0 (Array.getElem?_eq_some_iff.mp hs1).1 hs7]; exact hs1
  have hc1 : H[a]? = some (vp_cell (gA g 2) (n1, .inl gg)) := hG.one hw1 0 _ rfl
  obtain ⟨hs6, k0, hk0, cm0, hkk0⟩ := hs2
  obtain ⟨-, k1, hk1, cm1, hkk1⟩ := (hK.k.2 2 _ rfl).1 n1 (fun j => .int (gg j))
  obtain ⟨vm', X', step⟩ := X.arraycopy hx hown (hts _ hl) (hts _ hnat) (hts _ hst) (hts _ hini) (src := a0) (dst := a) (cs := scr) (cd := vp_cell (gA g 2) (n1, .inl gg)) (srcPos := sp) (destPos := dp) (n := n) (by rw [hT]; exact hc0) (by rw [hT]; exact hc1)
    hs6 (fun _ h => by cases h) hs3 (fun h => by cases h) hk0 hk1 hkk0 hkk1 (by simp [refKind]) g1 g2 g3
    (by rw [nn sp g1, nn n g3]; omega)
    (by rw [nn dp g2, nn n g3]; show ¬ _ > ((arrV (gA g 2) n1 (fun j => .int (gg j))).slots.size : Int); rw [arrV_size]; omega)
    (fun vm₁ _ i hi => by
      have e : scr.slots.getD (sp.toNatClampNeg + i) .null = .int (f (sp.toNatClampNeg + i)) := by
        rw [Array.getD_eq_getD_getElem?, hs5 _ (by omega)]
        rfl
      refine ⟨?_, ?_⟩
      · rw [e]
        exact hfit i hi
      · rw [e]
        exact trivial)
    (g := F0 m pc ls (.int n :: .int dp :: .ref a :: .int sp :: .ref a0 :: st)) rfl (by rw [hml]; exact hP.1) (rest := st) rfl (by rw [hb]; exact hd) (by omega) (by show 2 * 0 + _ + _ ≤ _; omega)
  have e1 : copied scr (vp_cell (gA g 2) (n1, .inl gg)) sp dp n = vp_cell (gA g 2) (n1, .inl (va_cpy f gg sp.toNatClampNeg dp.toNatClampNeg n.toNatClampNeg)) := va_copiedX (fun z => .int z) scr (gA g 2) f gg hs5 g4
  rw [e1] at X' step
  have hl : a < H.size := (Array.getElem?_eq_some_iff.mp hc1).1
  have hheap : ((T.setVm vm').setCell a (vp_cell (gA g 2) (n1, .inl (va_cpy f gg sp.toNatClampNeg dp.toNatClampNeg n.toNatClampNeg)))).heap = H.setIfInBounds a (vp_cell (gA g 2) (n1, .inl (va_cpy f gg sp.toNatClampNeg dp.toNatClampNeg n.toNatClampNeg))) := by rw [← hT]; rfl
  have oq : ∀ q : Nat, q ≠ a → (H.setIfInBounds a (vp_cell (gA g 2) (n1, .inl (va_cpy f gg sp.toNatClampNeg dp.toNatClampNeg n.toNatClampNeg))))[q]? = H[q]? := fun q hq => by simp [Array.getElem?_setIfInBounds, Ne.symm hq]
  have hsz : (H.setIfInBounds a (vp_cell (gA g 2) (n1, .inl (va_cpy f gg sp.toNatClampNeg dp.toNatClampNeg n.toNatClampNeg)))).size = H.size := by simp
  obtain ⟨t9, a1, b1⟩ := kk _ _ ls cells slots h1 h2 (hG.set (t := t1) hA hsz oq (show (H.setIfInBounds a _)[a]? = some _ by simp [Array.getElem?_setIfInBounds, hl])) ⟨by rw [hsz]; exact hS.1, fun q g1 g2 => by
      rw [oq q (fun e => g2 (by rw [e]; exact hA))]
      exact hS.2.1 q g1 g2, fun q hq => by
      rcases List.mem_append.mp hq with h | h
      · exact hS.2.2 q h
      · obtain ⟨z, -, hz⟩ := List.mem_map.mp h
        rw [← hz]
        exact hA⟩ hP _ hheap X'
  exact ⟨t9, step t9 a1, b1⟩
/-- System.arraycopy between arrays of Object, the elements objects of the table's classes -/
def isOb (w : Wd) (y : Nat) : Prop := ∃ ci r fs t, clA[ci]? = some r ∧ Cond.castable r.1 "java/lang/Object" ∈ lw_tbl ∧ w y = some (ob ci fs, t)
theorem Z.copyO {g : Gx} {x : Cx} {own : String} {cc : ByteArray} {nL lv : Nat} {ret : Option FieldType} {pc : Nat} {L : List (Option Value)} {st : List Value} {w : Wd} {kc ks : Nat} {index a0 a t0 t1 n0 n1 : Nat} {f gg : Nat → Option Nat} {sp dp n : Int32} (g1 : ¬ sp < 0) (g2 : ¬ dp < 0) (g3 : ¬ n < 0) (g4 : sp.toNatClampNeg + n.toNatClampNeg ≤ n0) (g5 : dp.toNatClampNeg + n.toNatClampNeg ≤ n1) (ok : OK g x own cc nL lv ret) (hl : Cond.methodLink own index arraycopyName ∈ lw_all) (hst : Cond.static arraycopyName ∈ lw_all) (hnat : Cond.native arraycopyName ∈ lw_all) (hini : Cond.initialized "java/lang/System" ∈ lw_all) (hw0 : w a0 = some (eO g n0 f, t0)) (hw1 : w a = some (eO g n1 gg, t1)) (ht1 : t1 ≠ 0) (hel : ∀ i : Nat, i < n.toNatClampNeg → ∀ y : Nat, f (sp.toNatClampNeg + i) = some y → isOb w y) (hlv : 0 < lv) (hrest : (st.map fun v => v.category).sum ≤ 8) (hd : decode cc pc = .ok (.invokestatic index, 3)) (kk : Z g x nL (pc + 3) L st (wset w a (eO g n1 (va_cpy f gg sp.toNatClampNeg dp.toNatClampNeg n.toNatClampNeg)) t1) kc ks) : Z g x nL pc L (.int n :: .int dp :: .ref a :: .int sp :: .ref a0 :: st) w kc ks := by
  obtain ⟨p, e, R, s, m, args, below, meth, c, Q⟩ := x
  obtain ⟨hx, hb, hml, hown, hts, hK, hlk, hret, hfr, hlo, hs1, hs2⟩ := ok
  intro H locs ls cells slots h1 h2 hG hS hP
  have nn : ∀ z : Int32, ¬ z < 0 → z.toInt = (z.toNatClampNeg : Int) := by
    intro z hz
    have hz0 : (0 : Int) ≤ z.toInt := by
      have := Int32.not_lt.mp hz
      simpa using Int32.le_iff_toInt_le.mp this
    show z.toInt = ((z.toInt.toNat : Nat) : Int)
    omega
  have hnf : nativeFrameWords "java/lang/System" "arraycopy" 5 ≤ 100 := by decide +kernel
  have hA := hG.up hw1 ht1
  have hasg : ∀ r : vw_C, Cond.castable r.1 "java/lang/Object" ∈ lw_tbl → ∀ comp c0 : ClassId, s.vm.findClass "java/lang/Object" = some comp → s.vm.findClass r.1 = some c0 → s.vm.assignable c0 comp = true := by
    intro r hca comp c0 q1 q2
    obtain ⟨c0', t1', f1, f2, f3⟩ := Cond.castable_spec (va_Nw.use (A := args) rfl (hK.2.2.2.1 _ _ hca))
    cases q2.symm.trans f1
    cases q1.symm.trans f2
    exact f3
  intro T hT X
  have hc0 : H[a0]? = some (vp_cell (gA g 4) (n0, .inr (.inr (.inr (.inr f))))) := hG.one hw0 0 _ rfl
  have hc1 : H[a]? = some (vp_cell (gA g 4) (n1, .inr (.inr (.inr (.inr gg))))) := hG.one hw1 0 _ rfl
  obtain ⟨-, k0, hk0, cm0, hkk0⟩ := (hK.k.2 4 _ rfl).1 n0 (fun j => va_rf (f j))
  obtain ⟨-, k1, hk1, cm1, hkk1⟩ := (hK.k.2 4 _ rfl).1 n1 (fun j => va_rf (gg j))
  obtain ⟨vm', X', step⟩ := X.arraycopy hx hown (hts _ hl) (hts _ hnat) (hts _ hst) (hts _ hini) (src := a0) (dst := a) (cs := vp_cell (gA g 4) (n0, .inr (.inr (.inr (.inr f))))) (cd := vp_cell (gA g 4) (n1, .inr (.inr (.inr (.inr gg))))) (srcPos := sp) (destPos := dp) (n := n) (by rw [hT]; exact hc0) (by rw [hT]; exact hc1)
    (fun _ h => by cases h) (fun _ h => by cases h) (fun h => by cases h) (fun h => by cases h) hk0 hk1 hkk0 hkk1 rfl g1 g2 g3
    (by rw [nn sp g1, nn n g3]; show ¬ _ > ((arrV (gA g 4) n0 (fun j => va_rf (f j))).slots.size : Int); rw [arrV_size]; omega)
    (by rw [nn dp g2, nn n g3]; show ¬ _ > ((arrV (gA g 4) n1 (fun j => va_rf (gg j))).slots.size : Int); rw [arrV_size]; omega)
    (fun vm₁ hal i hi => by
      have e : (vp_cell (gA g 4) (n0, .inr (.inr (.inr (.inr f))))).slots.getD (sp.toNatClampNeg + i) .null = va_rf (f (sp.toNatClampNeg + i)) := by
        show (arrV (gA g 4) n0 (fun j => va_rf (f j))).slots.getD _ _ = _
        rw [Array.getD_eq_getD_getElem?, arrV_read _ _ (by omega)]
        rfl
      rw [e]
      cases hy : f (sp.toNatClampNeg + i) with
      | none => exact ⟨rfl, trivial⟩
      | some y =>
        obtain ⟨ciy, r, fsy, ty, hc, hca, hwy⟩ := hel i hi y hy
        obtain ⟨cellV, b1, b2, b3⟩ := hG.recv hK hwy hc
        obtain ⟨kA, comp, r1, r2, r3, -⟩ := (hK.k.2 4 _ rfl).2
        cases hk1.symm.trans r1
        cases hkk1.symm.trans r2
        obtain ⟨kC, hkC, -⟩ := Vm.findClass_spec b3
        obtain ⟨kE, hkE, -⟩ := Vm.findClass_spec r3
        obtain ⟨kC', hkC', -⟩ := hal.2.2 _ _ hkC
        obtain ⟨kE', hkE', -⟩ := hal.2.2 _ _ hkE
        refine ⟨rfl, cellV, (show T.heap[y]? = some cellV by rw [hT]; exact b1), (fun q h => by rw [h] at b2; cases b2), ⟨kC', hkC'⟩, ?_, ?_⟩
        · exact ⟨kE', hkE'⟩
        · show vm₁.assignable _ _ = true
          rw [hal.assignable]
          exact hasg r hca _ _ r3 b3)
    (g := F0 m pc ls (.int n :: .int dp :: .ref a :: .int sp :: .ref a0 :: st)) rfl (by rw [hml]; exact hP.1) (rest := st) rfl (by rw [hb]; exact hd) (by omega) (by show 2 * 0 + _ + _ ≤ _; omega)
  have e1 : copied (vp_cell (gA g 4) (n0, .inr (.inr (.inr (.inr f))))) (vp_cell (gA g 4) (n1, .inr (.inr (.inr (.inr gg))))) sp dp n = vp_cell (gA g 4) (n1, .inr (.inr (.inr (.inr (va_cpy f gg sp.toNatClampNeg dp.toNatClampNeg n.toNatClampNeg))))) := by
    rw [vp_cell_q, vp_cell_q, vp_cell_q]
    exact va_copied (fun z => va_rf z) (gA g 4) (gA g 4) f gg g4
  rw [e1] at X' step
  have hl : a < H.size := (Array.getElem?_eq_some_iff.mp hc1).1
  have hheap : ((T.setVm vm').setCell a (vp_cell (gA g 4) (n1, .inr (.inr (.inr (.inr (va_cpy f gg sp.toNatClampNeg dp.toNatClampNeg n.toNatClampNeg))))))).heap = H.setIfInBounds a (vp_cell (gA g 4) (n1, .inr (.inr (.inr (.inr (va_cpy f gg sp.toNatClampNeg dp.toNatClampNeg n.toNatClampNeg)))))) := by rw [← hT]; rfl
  have oq : ∀ q : Nat, q ≠ a → (H.setIfInBounds a (vp_cell (gA g 4) (n1, .inr (.inr (.inr (.inr (va_cpy f gg sp.toNatClampNeg dp.toNatClampNeg n.toNatClampNeg)))))))[q]? = H[q]? := fun q hq => by simp [Array.getElem?_setIfInBounds, Ne.symm hq]
  have hsz : (H.setIfInBounds a (vp_cell (gA g 4) (n1, .inr (.inr (.inr (.inr (va_cpy f gg sp.toNatClampNeg dp.toNatClampNeg n.toNatClampNeg))))))).size = H.size := by simp
  obtain ⟨t9, a1, b1⟩ := kk _ _ ls cells slots h1 h2 (hG.set (t := t1) hA hsz oq (show (H.setIfInBounds a _)[a]? = some _ by simp [Array.getElem?_setIfInBounds, hl])) ⟨by rw [hsz]; exact hS.1, fun q g1 g2 => by
      rw [oq q (fun e => g2 (by rw [e]; exact hA))]
      exact hS.2.1 q g1 g2, fun q hq => by
      rcases List.mem_append.mp hq with h | h
      · exact hS.2.2 q h
      · obtain ⟨z, -, hz⟩ := List.mem_map.mp h
        rw [← hz]
        exact hA⟩ hP _ hheap X'
  exact ⟨t9, step t9 a1, b1⟩
