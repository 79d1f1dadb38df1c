/-! ===== BASE: worlds as functions, and the machine Z over them ===== -/
/-- a world: what lies at an address, with a tag (0: constant, lies below the law's start) -/
abbrev Wd : Type := Nat → Option (va_E × Nat)
def wset (w : Wd) (a : Nat) (e : va_E) (t : Nat) : Wd := fun x => if x = a then some (e, t) else w x
theorem ws_s {w : Wd} {a : Nat} {e : va_E} {t : Nat} : wset w a e t a = some (e, t) := if_pos rfl
theorem ws_n {w : Wd} {a b : Nat} {e : va_E} {t : Nat} (h : b ≠ a) : wset w a e t b = w b := if_neg h
theorem ws_e {w : Wd} {a b : Nat} {e : va_E} {t : Nat} (h : b = a) : wset w a e t b = some (e, t) := if_pos h
/-- what all methods share: the launch, class numbers and slots, the array classes, the law's first heap, addresses of constants -/
abbrev Gx : Type := Launch × va_G × (Nat → ClassId) × Heap × (Nat → Nat)
abbrev gL (g : Gx) : Launch := g.1
abbrev gD (g : Gx) : va_G := g.2.1
abbrev gA (g : Gx) : Nat → ClassId := g.2.2.1
abbrev gH (g : Gx) : Heap := g.2.2.2.1
abbrev gS (g : Gx) : Nat → Nat := g.2.2.2.2
def AA (g : Gx) : Nat → Prop := fun q => (gH g).size ≤ q
def clA : List vw_C := [(RX1, TX1, 5), (RX2, TX2, 15), (RX3, TX3, 6), (RX4, TX4, 3), (RX6, TX6, 3), (RX7, TX7, 1), (RJ2, TJ2, 3), (RJ4, TJ4, 8), (RJ26, TJ26, 4), (RJ28, TJ28, 11), (RJ20, TJ20, 4), (RJ14, TJ14, 4)]
def tyA (g : Gx) : List (ClassId × FieldType) := [(gA g 0, .int), (gA g 1, .boolean), (gA g 2, .byte), (gA g 3, .long), (gA g 4, .object "java/lang/Object"), (gA g 5, .object "java/util/HashMap$Node")]
/-- arrays, as things of a world -/
abbrev eI (g : Gx) (n : Nat) (f : Nat → Int32) : va_E := .inl (gA g 0, n, .inl f)
abbrev eZ (g : Gx) (n : Nat) (f : Nat → Int32) : va_E := .inl (gA g 1, n, .inl f)
abbrev eB (g : Gx) (n : Nat) (f : Nat → Int32) : va_E := .inl (gA g 2, n, .inl f)
abbrev eJ (g : Gx) (n : Nat) (f : Nat → Int64) : va_E := .inl (gA g 3, n, .inr (.inl f))
abbrev eO (g : Gx) (n : Nat) (f : Nat → Option Nat) : va_E := .inl (gA g 4, n, .inr (.inr (.inr (.inr f))))
abbrev eN (g : Gx) (n : Nat) (f : Nat → Option Nat) : va_E := .inl (gA g 5, n, .inr (.inr (.inr (.inr f))))
/-- an object of the class ci -/
abbrev ob (ci : Nat) (fs : List Value) : va_E := .inr (ci, fs)
/-- the heap holds the world, and nothing of the law's start has changed -/
def GH (g : Gx) (w : Wd) (H : Heap) : Prop := (∀ a e t, w a = some (e, t) → va_at (gD g) clA (a, e) H ∧ (t ≠ 0 → AA g a)) ∧ (gH g).size ≤ H.size ∧ ∀ q : Nat, q < (gH g).size → H[q]? = (gH g)[q]?
theorem GH.one {g : Gx} {w : Wd} {H : Heap} (h : GH g w H) {a : Nat} {e : va_E} {t : Nat} (ha : w a = some (e, t)) : va_P (gD g) clA [(a, e)] H := by
  intro k q hk
  have hz : k < 1 := (List.getElem?_eq_some_iff.mp hk).1
  rw [show k = 0 by omega] at hk
  cases hk
  exact (h.1 a e t ha).1
theorem GH.up {g : Gx} {w : Wd} {H : Heap} (h : GH g w H) {a : Nat} {e : va_E} {t : Nat} (ha : w a = some (e, t)) (ht : t ≠ 0) : AA g a := (h.1 a e t ha).2 ht
theorem GH.lt {g : Gx} {w : Wd} {H : Heap} (h : GH g w H) {a : Nat} {e : va_E} {t : Nat} (ha : w a = some (e, t)) : a < H.size := (h.1 a e t ha).1.lt
theorem GH.set {g : Gx} {w : Wd} {H H1 : Heap} (h : GH g w H) {a : Nat} {e : va_E} {t : Nat} (hA : AA g a) (hz : H1.size = H.size) (ho : ∀ q : Nat, q ≠ a → H1[q]? = H[q]?) (he : va_at (gD g) clA (a, e) H1) : GH g (wset w a e t) H1 := by
  refine ⟨fun b e' t' hb => ?_, by rw [hz]; exact h.2.1, fun q hq => ?_⟩
  · by_cases hab : b = a
    · rw [ws_e hab] at hb
      cases hb
      subst hab
      exact ⟨he, fun _ => hA⟩
    · rw [ws_n hab] at hb
      exact ⟨(h.1 b e' t' hb).1.kept (ho b hab), (h.1 b e' t' hb).2⟩
  · have hne : q ≠ a := fun e => by
      rw [e] at hq
      exact absurd hq (Nat.not_lt.mpr hA)
    rw [ho q hne]
    exact h.2.2 q hq
theorem GH.new {g : Gx} {w : Wd} {H H1 : Heap} (h : GH g w H) {e : va_E} {t : Nat} (hz : H1.size = H.size + 1) (ho : ∀ q : Nat, q < H.size → H1[q]? = H[q]?) (he : va_at (gD g) clA (H.size, e) H1) : GH g (wset w H.size e t) H1 ∧ w H.size = none := by
  have hn : w H.size = none := by
    cases hw : w H.size with
    | none => rfl
    | some x => exact absurd (h.lt (e := x.1) (t := x.2) hw) (Nat.lt_irrefl _)
  refine ⟨⟨fun b e' t' hb => ?_, by rw [hz]; exact Nat.le_succ_of_le h.2.1, fun q hq => ?_⟩, hn⟩
  · by_cases hab : b = H.size
    · rw [ws_e hab] at hb
      cases hb
      subst hab
      exact ⟨he, fun _ => h.2.1⟩
    · rw [ws_n hab] at hb
      exact ⟨(h.1 b e' t' hb).1.kept (ho b (h.lt hb)), (h.1 b e' t' hb).2⟩
  · rw [ho q (Nat.lt_of_lt_of_le hq h.2.1)]
    exact h.2.2 q hq
/-- another world of the same heap: fewer things -/
theorem GH.less {g : Gx} {w w' : Wd} {H : Heap} (h : GH g w H) (hw : ∀ a x, w' a = some x → w a = some x) : GH g w' H := ⟨fun a e t ha => h.1 a e t (hw a _ ha), h.2⟩
/-- the facts of the tables that don't ride in the lists, and of constants: they hold of every state of the run -/
def lw_ex : List Cond := [.selects "java/lang/StringBuilder" ⟨"java/lang/AbstractStringBuilder", "ensureCapacityInternal", "(I)V"⟩ ⟨"java/lang/AbstractStringBuilder", "ensureCapacityInternal", "(I)V"⟩, .selects "java/lang/StringBuilder" ⟨"java/lang/AbstractStringBuilder", "putStringAt", "(ILjava/lang/String;)V"⟩ ⟨"java/lang/AbstractStringBuilder", "putStringAt", "(ILjava/lang/String;)V"⟩, .selects "java/lang/StringBuilder" ⟨"java/lang/AbstractStringBuilder", "inflateIfNeededFor", "(Ljava/lang/String;)V"⟩ ⟨"java/lang/AbstractStringBuilder", "inflateIfNeededFor", "(Ljava/lang/String;)V"⟩]
def ncL : List (String × String) := [("java/util/HashMap$Node", "java/util/HashMap$TreeNode"), ("AlertIndex$Barred", "AlertIndex$Range"), ("java/lang/IllegalStateException", "java/lang/IndexOutOfBoundsException"), ("java/lang/IllegalArgumentException", "java/lang/IndexOutOfBoundsException"), ("java/lang/IllegalStateException", "java/lang/IllegalArgumentException")]
/-- statics and constants: in the law's first heap (gS 0: the empty list's array, 1, 2: the digits, 3-5: the Strings n : +, 6-8: their bytes, 9: the mirror of Object[]) -/
def SS (g : Gx) (U : State) : Prop :=
  vx_Zq Bundle.tN "UNASSIGNED_STACK" Bundle.steD (AA g) U (gH g) ∧ vx_Zq Bundle.tN "SUPPRESSED_SENTINEL" Bundle.listD (AA g) U (gH g) ∧
  va_Z "java/lang/String" "COMPACT_STRINGS" "Z" (.int 1) (AA g) U (gH g) ∧
  va_Z "java/util/HashMap$TreeNode" "$assertionsDisabled" "Z" (.int 1) (AA g) U (gH g) ∧
  va_Z "java/util/ArrayList" "DEFAULTCAPACITY_EMPTY_ELEMENTDATA" "[Ljava/lang/Object;" (.ref (gS g 0)) (AA g) U (gH g) ∧
  va_Z "java/lang/Integer" "DigitTens" "[B" (.ref (gS g 1)) (AA g) U (gH g) ∧
  va_Z "java/lang/Integer" "DigitOnes" "[B" (.ref (gS g 2)) (AA g) U (gH g) ∧
  va_T (.object "java/lang/Object") (gS g 0) 0 (fun _ => .null) (AA g) U (gH g) ∧
  va_T .byte (gS g 1) 100 (fun j => .int (nI (48 + j / 10))) (AA g) U (gH g) ∧
  va_T .byte (gS g 2) 100 (fun j => .int (nI (48 + j % 10))) (AA g) U (gH g) ∧
  va_Mi "[Ljava/lang/Object;" (gS g 9) U ∧
  vk_S 3 [1, 1, 1] [[110], [58], [43]] (fun i => gS g (3 + i)) (fun i => gS g (6 + i)) (AA g) U (gH g) ∧
  vk_R "AlertIndex" 134 "n" (gS g 3) U ∧ vk_R "AlertIndex" 143 ":" (gS g 4) U ∧ vk_R "AlertIndex" 145 "+" (gS g 5) U
/-- a call through x on an object of C lands in x itself (a default method) -/
def selD (C : String) (x : MethodName) (U : State) : Prop := ∃ c m, U.vm.findClass C = some c ∧ U.methodNamed? x = some m ∧ selectMethod {} U.vm c m = .method m
def tstT : MethodName := ⟨"AlertIndex$Test", "isTrue", "([I)Z"⟩
def tstP : MethodName := ⟨"AlertIndex$Test", "isPlain", "()Z"⟩
theorem selD.warm {C : String} {x : MethodName} {s U : State} (hW : s.WarmedH U.vm) (h : selD C x s) : selD C x U := by
  obtain ⟨c, m, h1, h2, h3⟩ := h
  refine ⟨c, m, (by rw [hW.alike.findClass]; exact h1), ?_, (hW.alike.selectMethod _ _ _).trans h3⟩
  have : (s.setVm U.vm).methodNamed? x = U.methodNamed? x := rfl
  rw [← this, State.methodNamed?_setVm hW.alike]
  exact h2
def KK (g : Gx) (U : State) : Prop := ((gL g).stackTraces = false ∧ selD "AlertIndex$Range" tstT U ∧ selD "AlertIndex$Range" tstP U) ∧ va_K (gD g) clA (tyA g) U ∧
  (∀ w ∈ lw_ex, w.before #[] U = true) ∧
  (∀ C T : String, Cond.castable C T ∈ lw_tbl → va_Nw (.castable C T) U) ∧
  (∀ (own : String) (i : Nat) (y : MethodName) (h : String), Cond.methodLinkNest own i y h ∈ lw_tbl → va_Nw (.methodLinkNest own i y h) U) ∧
  (∀ C : String, Cond.arrayOver (.object C) ∈ lw_tbl → va_AO C U) ∧
  (∀ (C : String) (x y : MethodName), Cond.declares x ∈ lw_tbl → Cond.interfaceMethod x.cls x.cls x.name x.desc ∈ lw_tbl → Cond.publicMethod y ∈ lw_tbl → Cond.unhidden C x.name x.desc ∈ lw_tbl → Cond.castable C x.cls ∈ lw_tbl → (x.cls ≠ "java/lang/invoke/MethodHandle" ∧ x.cls ≠ "java/lang/invoke/VarHandle") → va_Fw C x y U) ∧
  (∀ q ∈ ncL, va_Nc q.1 q.2 U) ∧ (∀ y : MethodName, Cond.declares y ∈ lw_tbl → va_Nw (.declares y) U) ∧ SS g U
theorem lw_ex_good : lw_ex.all goodWord = true := by decide +kernel
theorem SS.warm {g : Gx} {s U : State} (hW : s.WarmedH U.vm) (h : SS g s) : SS g U := by
  obtain ⟨h1, h2, h3, h4, h5, h6, h7, h8, h9, h10, h11, h12, h13, h14, h15⟩ := h
  exact ⟨h1.moved hW.alike, h2.moved hW.alike, h3.moved hW.alike, h4.moved hW.alike, h5.moved hW.alike, h6.moved hW.alike, h7.moved hW.alike, h8.moved hW.alike, h9.moved hW.alike, h10.moved hW.alike, h11.moved hW.alike, h12.moved hW.alike, h13.warm hW, h14.warm hW, h15.warm hW⟩
theorem KK.warm {g : Gx} {s U : State} (hW : s.WarmedH U.vm) (h : KK g s) : KK g U := by
  obtain ⟨h0, h1, h2, h3, h4, h5, h6, h7, h9, h8⟩ := h
  refine ⟨⟨h0.1, h0.2.1.warm hW, h0.2.2.warm hW⟩, h1.moved hW.alike, fun w hw => word_at hW (good_of_word (List.all_eq_true.mp lw_ex_good w hw)) (h2 w hw), fun C T hm => (h3 C T hm).warmC hW, fun o i y hh hm => (h4 o i y hh hm).warmM hW, fun C hm => (h5 C hm).moved hW.alike, fun C x y a1 a2 a3 a4 a5 a6 => (h6 C x y a1 a2 a3 a4 a5 a6).moved a6 hW.alike, fun q hq => (h7 q hq).moved hW.alike, fun y hm => (h9 y hm).warmD hW, h8.warm hW⟩
theorem KK.calling {g : Gx} {U : State} {f : JFrame} {mk : MethodId} {a : Array Value} (h : KK g U) : KK g (U.calling f mk a) := h.warm (U := U.calling f mk a) (State.WarmedH.refl U)
/-! the frame in which a method's body is walked: its parameters in one, the answer it owes -/
abbrev Cx : Type := Program × Env × Room × State × MethodId × Array Value × List Frame × Method × Code × (State → Prop)
def PL (ls : Array Slot) (nL : Nat) (L : List (Option Value)) : Prop := ls.size = nL ∧ L.length = nL ∧ lv_wf ls ∧ ∀ (i : Nat) (v : Value), L[i]? = some (some v) → ls[i]? = some (.val v) ∧ v.category = 1
def Z (g : Gx) (x : Cx) (nL pc : Nat) (L : List (Option Value)) (st : List Value) (w : Wd) (kc ks : Nat) : Prop :=
  match x with
  | (p, e, R, s, m, args, below, meth, c, Q) => ∀ (H : Heap) (locs : List Loc) (ls : Array Slot) (cells slots : Nat), cells + kc ≤ R.cells → slots + ks ≤ R.slots → GH g w H → va_S (AA g) s.heap H locs → PL ls nL L → W p (gL g) e R s m args below meth c H locs cells slots Q (F0 m pc ls st)
/-- with q thrown over the frame -/
def ZX (g : Gx) (x : Cx) (nL pc : Nat) (L : List (Option Value)) (w : Wd) (kc ks : Nat) (E : String) (q : Nat) : Prop :=
  match x with
  | (p, e, R, s, m, args, below, meth, c, Q) => ∀ (H : Heap) (locs : List Loc) (ls : Array Slot) (cells slots : Nat) (rest : List Value) (ce : Cell), cells + kc ≤ R.cells → slots + ks ≤ R.slots → GH g w H → va_S (AA g) s.heap H locs → PL ls nL L → H[q]? = some ce → ce.vm = .none → s.vm.findClass E = some ce.cls → vx_W p (gL g) e R s m args below meth c H locs cells slots Q (F0 m pc ls rest) q
def rmk (lv mc ms : Nat) : Room := { frames := 100 * lv, cells := mc, slots := ms, locals := 1000 * lv }
/-- what holds in a body: the code, its class, the tables' words, the facts, the level of the room -/
def OK (g : Gx) (x : Cx) (own : String) (cc : ByteArray) (nL lv : Nat) (ret : Option FieldType) : Prop :=
  match x with
  | (p, e, R, s, m, args, below, meth, c, Q) => p.tables.exec = Jvm.exec ∧ c.code = cc ∧ c.maxLocals = nL ∧ s.vm.findClass own = some m.cls ∧ (∀ w ∈ lw_all, w.before args s = true) ∧ KK g s ∧ meth.locks = false ∧ meth.sig.returnType = ret ∧ 100 * lv ≤ R.frames ∧ 1000 * lv ≤ R.locals ∧ (gH g).size ≤ s.heap.size ∧ ∀ q : Nat, q < (gH g).size → s.heap[q]? = (gH g)[q]?
def Qc0 (g : Gx) (Post : Option Value → Wd → Prop) : Array Value → State → Outcome → State → Prop := fun _ st o t => ∃ v w', o = .returned v ∧ Post v w' ∧ GH g w' t.heap ∧ va_F (AA g) st t
def Xc0 (g : Gx) (PostX : String → Wd → Prop) : String → State → State → Prop := fun E st t => ∃ w', PostX E w' ∧ GH g w' t.heap ∧ va_F (AA g) st t
/-- the body's end is a contract's -/
def EndQ (g : Gx) (x : Cx) (Post : Option Value → Wd → Prop) (PostX : String → Wd → Prop) : Prop :=
  match x with
  | (p, e, R, s, m, args, below, meth, c, Q) => Q = vx_MQ below (Qc0 g Post) (Xc0 g PostX) args s R.cells R.slots (AA g) ∧ ∀ z ∈ c.exceptionTable.toList, False
/-- A CONTRACT: called with args in a heap that holds w: it returns, and Post; or throws, and PostX -/
def Ct (g : Gx) (y : MethodName) (cc : ByteArray) (nL : Nat) (ret : Option FieldType) (lv mc ms : Nat) (args : List Value) (w : Wd) (Post : Option Value → Wd → Prop) (PostX : String → Wd → Prop) : Prop :=
  vx_Met (gL g) y (ws_ y cc nL ret) (rmk lv mc ms) (va_Pc args (fun U => KK g U ∧ GH g w U.heap)) (Qc0 g Post) (Xc0 g PostX) mc ms (AA g)
def noX : String → Wd → Prop := fun _ _ => False
/-- the locals at the entry -/
def entL (nL : Nat) (args : List Value) : List (Option Value) := args.map some ++ List.replicate (nL - args.length) none
theorem PL.of_has {ls : Array Slot} {nL : Nat} {L : List (Option Value)} {l : List (Nat × Value)} (h : lv_has ls nL l) (hL : L.length = nL) (hl : ∀ (i : Nat) (v : Value), L[i]? = some (some v) → (i, v) ∈ l ∧ v.category = 1) : PL ls nL L :=
  ⟨h.1, hL, h.2.1, fun i v hi => ⟨h.2.2 (i, v) (hl i v hi).1, (hl i v hi).2⟩⟩
/-- the kit's list of locals out of ours -/
def lvA : Nat → List (Option Value) → List (Nat × Value)
  | _, [] => []
  | i, none :: r => lvA (i + 1) r
  | i, some v :: r => (i, v) :: lvA (i + 1) r
theorem lvA_mem : ∀ (L : List (Option Value)) (i : Nat) (q : Nat × Value), q ∈ lvA i L ↔ ∃ j : Nat, q.1 = i + j ∧ L[j]? = some (some q.2)
  | [], i, q => by simp [lvA]
  | none :: r, i, q => by
    rw [lvA, lvA_mem r (i + 1) q]
    constructor
    · rintro ⟨j, h1, h2⟩
      exact ⟨j + 1, by omega, by simpa using h2⟩
    · rintro ⟨j, h1, h2⟩
      cases j with
      | zero => simp at h2
      | succ j => exact ⟨j, by omega, by simpa using h2⟩
  | some v :: r, i, q => by
    rw [lvA, List.mem_cons, lvA_mem r (i + 1) q]
    constructor
    · rintro (rfl | ⟨j, h1, h2⟩)
      · exact ⟨0, rfl, rfl⟩
      · exact ⟨j + 1, by omega, by simpa using h2⟩
    · rintro ⟨j, h1, h2⟩
      cases j with
      | zero =>
        simp at h2
        left
        obtain ⟨a, b⟩ := q
        simp at h1 h2
        rw [h1, h2]
      | succ j => exact Or.inr ⟨j, by omega, by simpa using h2⟩
theorem PL.has {ls : Array Slot} {nL : Nat} {L : List (Option Value)} (h : PL ls nL L) : lv_has ls nL (lvA 0 L) := by
  refine ⟨h.1, h.2.2.1, fun q hq => ?_⟩
  obtain ⟨j, h1, h2⟩ := (lvA_mem L 0 q).mp hq
  rw [Nat.zero_add] at h1
  rw [h1]
  exact (h.2.2.2 j q.2 h2).1
theorem PL.at {ls : Array Slot} {nL : Nat} {L : List (Option Value)} (h : PL ls nL L) {i : Nat} {v : Value} (hi : L[i]? = some (some v)) : ls[i]? = some (.val v) := (h.2.2.2 i v hi).1
/-- behind a store -/
theorem PL.put {ls ls' : Array Slot} {nL : Nat} {L : List (Option Value)} {i : Nat} {v : Value} (h : PL ls nL L) (hv : v.category = 1) (h' : lv_has ls' nL ((i, v) :: (lvA 0 L).filter (fun q => !(q.1 == i) && !(q.1 + 1 == i && q.2.category == 2)))) : PL ls' nL (L.set i (some v)) := by
  refine PL.of_has h' (by rw [List.length_set]; exact h.2.1) (fun j u hj => ?_)
  by_cases hji : j = i
  · subst hji
    have hlt : j < L.length := by
      have := (List.getElem?_eq_some_iff.mp hj).1
      rwa [List.length_set] at this
    rw [List.getElem?_set_self hlt] at hj
    cases hj
    exact ⟨List.mem_cons_self, hv⟩
  · rw [List.getElem?_set_ne (Ne.symm hji)] at hj
    refine ⟨List.mem_cons_of_mem _ (List.mem_filter.mpr ⟨(lvA_mem L 0 (j, u)).mpr ⟨j, by simp, hj⟩, ?_⟩), (h.2.2.2 j u hj).2⟩
    have hc := (h.2.2.2 j u hj).2
    simp [hji, hc]
/-- some locals forgotten -/
theorem PL.less {ls : Array Slot} {nL : Nat} {L L' : List (Option Value)} (h : PL ls nL L) (hl : L'.length = nL) (hs : ∀ (i : Nat) (v : Value), L'[i]? = some (some v) → L[i]? = some (some v)) : PL ls nL L' := ⟨h.1, hl, h.2.2.1, fun i v hi => h.2.2.2 i v (hs i v hi)⟩
theorem KK.ss {g : Gx} {U : State} (h : KK g U) : SS g U := h.2.2.2.2.2.2.2.2.2
theorem GH.ext {g : Gx} {w : Wd} {H H1 : Heap} (h : GH g w H) (hz : H.size ≤ H1.size) (ho : ∀ q : Nat, q < H.size → H1[q]? = H[q]?) : GH g w H1 := ⟨fun a e t ha => ⟨(h.1 a e t ha).1.kept (ho a (h.lt ha)), (h.1 a e t ha).2⟩, Nat.le_trans h.2.1 hz, fun q hq => (ho q (Nat.lt_of_lt_of_le hq h.2.1)).trans (h.2.2 q hq)⟩
