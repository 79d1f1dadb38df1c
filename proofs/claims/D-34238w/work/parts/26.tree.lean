/-! ===== BINARY SEARCH TREES by local invariants: every node has an interval (lo, hi); plain law of the rotations ===== -/
def up1 {α : Type} (f : Nat → α) (a : Nat) (x : α) : Nat → α := fun y => if y = a then x else f y
theorem up1_s {α : Type} {f : Nat → α} {a : Nat} {x : α} : up1 f a x a = x := if_pos rfl
theorem up1_n {α : Type} {f : Nat → α} {a b : Nat} {x : α} (h : b ≠ a) : up1 f a x b = f b := if_neg h
def Tr (S : Nat → Prop) (root : Nat) (h : Nat → Int) (P L R : Nat → Option Nat) (lo hi : Nat → Int) : Prop :=
  (S root) ∧
  (∀ a, S a → (P a = none ↔ a = root)) ∧
  (lo root = -2147483649) ∧
  (hi root = 2147483649) ∧
  (∀ a, S a → -2147483649 ≤ lo a ∧ hi a ≤ 2147483649) ∧
  (∀ a, S a → lo a < h a ∧ h a < hi a) ∧
  (∀ a b, S a → L a = some b → S b ∧ P b = some a ∧ lo b = lo a ∧ hi b = h a) ∧
  (∀ a b, S a → R a = some b → S b ∧ P b = some a ∧ lo b = h a ∧ hi b = hi a) ∧
  (∀ a b, S a → P a = some b → S b ∧ (L b = some a ∨ R b = some a))
theorem Tr.mk {S : Nat → Prop} {root : Nat} {h : Nat → Int} {P L R : Nat → Option Nat} {lo hi : Nat → Int} (inS_ : S root) (rt_ : ∀ a, S a → (P a = none ↔ a = root)) (rlo_ : lo root = -2147483649) (rhi_ : hi root = 2147483649) (bd_ : ∀ a, S a → -2147483649 ≤ lo a ∧ hi a ≤ 2147483649) (ord_ : ∀ a, S a → lo a < h a ∧ h a < hi a) (lf_ : ∀ a b, S a → L a = some b → S b ∧ P b = some a ∧ lo b = lo a ∧ hi b = h a) (rg_ : ∀ a b, S a → R a = some b → S b ∧ P b = some a ∧ lo b = h a ∧ hi b = hi a) (pa_ : ∀ a b, S a → P a = some b → S b ∧ (L b = some a ∨ R b = some a)) : Tr S root h P L R lo hi := ⟨inS_, rt_, rlo_, rhi_, bd_, ord_, lf_, rg_, pa_⟩
theorem Tr.inS {S : Nat → Prop} {root : Nat} {h : Nat → Int} {P L R : Nat → Option Nat} {lo hi : Nat → Int} (H : Tr S root h P L R lo hi) : S root := H.1
theorem Tr.rt {S : Nat → Prop} {root : Nat} {h : Nat → Int} {P L R : Nat → Option Nat} {lo hi : Nat → Int} (H : Tr S root h P L R lo hi) : ∀ a, S a → (P a = none ↔ a = root) := H.2.1
theorem Tr.rlo {S : Nat → Prop} {root : Nat} {h : Nat → Int} {P L R : Nat → Option Nat} {lo hi : Nat → Int} (H : Tr S root h P L R lo hi) : lo root = -2147483649 := H.2.2.1
theorem Tr.rhi {S : Nat → Prop} {root : Nat} {h : Nat → Int} {P L R : Nat → Option Nat} {lo hi : Nat → Int} (H : Tr S root h P L R lo hi) : hi root = 2147483649 := H.2.2.2.1
theorem Tr.bd {S : Nat → Prop} {root : Nat} {h : Nat → Int} {P L R : Nat → Option Nat} {lo hi : Nat → Int} (H : Tr S root h P L R lo hi) : ∀ a, S a → -2147483649 ≤ lo a ∧ hi a ≤ 2147483649 := H.2.2.2.2.1
theorem Tr.ord {S : Nat → Prop} {root : Nat} {h : Nat → Int} {P L R : Nat → Option Nat} {lo hi : Nat → Int} (H : Tr S root h P L R lo hi) : ∀ a, S a → lo a < h a ∧ h a < hi a := H.2.2.2.2.2.1
theorem Tr.lf {S : Nat → Prop} {root : Nat} {h : Nat → Int} {P L R : Nat → Option Nat} {lo hi : Nat → Int} (H : Tr S root h P L R lo hi) : ∀ a b, S a → L a = some b → S b ∧ P b = some a ∧ lo b = lo a ∧ hi b = h a := H.2.2.2.2.2.2.1
theorem Tr.rg {S : Nat → Prop} {root : Nat} {h : Nat → Int} {P L R : Nat → Option Nat} {lo hi : Nat → Int} (H : Tr S root h P L R lo hi) : ∀ a b, S a → R a = some b → S b ∧ P b = some a ∧ lo b = h a ∧ hi b = hi a := H.2.2.2.2.2.2.2.1
theorem Tr.pa {S : Nat → Prop} {root : Nat} {h : Nat → Int} {P L R : Nat → Option Nat} {lo hi : Nat → Int} (H : Tr S root h P L R lo hi) : ∀ a b, S a → P a = some b → S b ∧ (L b = some a ∨ R b = some a) := H.2.2.2.2.2.2.2.2
theorem Tr.mirror {S : Nat → Prop} {root : Nat} {h : Nat → Int} {P L R : Nat → Option Nat} {lo hi : Nat → Int} (H : Tr S root h P L R lo hi) : Tr S root (fun a => -h a) P R L (fun a => -hi a) (fun a => -lo a) := by
  obtain ⟨h1, h2, h3, h4, h9, h5, h6, h7, h8⟩ := H
  refine Tr.mk ?_ ?_ ?_ ?_ ?_ ?_ ?_ ?_ ?_ <;> grind
def rotP (P : Nat → Option Nat) (rl : Option Nat) (p r : Nat) : Nat → Option Nat :=
  let P1 := match rl with | none => P | some c => up1 P c (some p)
  up1 (up1 P1 r (P p)) p (some r)
def ppL (L : Nat → Option Nat) (pp : Option Nat) (p r : Nat) : Nat → Option Nat := match pp with | none => L | some c => if L c = some p then up1 L c (some r) else L
def ppR (L R : Nat → Option Nat) (pp : Option Nat) (p r : Nat) : Nat → Option Nat := match pp with | none => R | some c => if L c = some p then R else up1 R c (some r)
/-- the rotation to the left at p, r its right child -/
theorem Tr.rotL {S : Nat → Prop} {root : Nat} {h : Nat → Int} {P L R : Nat → Option Nat} {lo hi : Nat → Int} {p r : Nat} (H : Tr S root h P L R lo hi) (hp : S p) (hr : R p = some r) :
   Tr S (if P p = none then r else root) h (rotP P (L r) p r) (up1 (ppL L (P p) p r) r (some p)) (ppR L (up1 R p (L r)) (P p) p r) (fun x => if x = r then lo p else if x = p then lo p else lo x) (fun x => if x = r then hi p else if x = p then h r else hi x) := by
  obtain ⟨h1, h2, h3, h4, h9, h5, h6, h7, h8⟩ := H
  have a1 := h7 p r hp hr
  have a2 := h5 p hp
  have a3 := h5 r a1.1
  have npr : p ≠ r := by grind
  have b1 := h6 r
  have b2 := h8 p
  have b3 := h2 p hp
  unfold rotP ppL ppR
  cases hl : L r with
  | none =>
    cases hpp : P p with
    | none => refine Tr.mk ?_ ?_ ?_ ?_ ?_ ?_ ?_ ?_ ?_ <;> (try simp only [up1, hpp]) <;> grind [up1]
    | some pp =>
      by_cases hc : L pp = some p <;> refine Tr.mk ?_ ?_ ?_ ?_ ?_ ?_ ?_ ?_ ?_ <;> (try simp only [up1, hpp, hc]) <;> grind [up1]
  | some rl =>
    have c1 := b1 rl a1.1 hl
    have c2 := h5 rl c1.1
    have d1 : rl ≠ p := by grind
    have d2 : rl ≠ r := by grind
    cases hpp : P p with
    | none => refine Tr.mk ?_ ?_ ?_ ?_ ?_ ?_ ?_ ?_ ?_ <;> (try simp only [up1, hpp]) <;> grind [up1]
    | some pp =>
      have e1 := b2 pp hp hpp
      have e2 := h5 pp e1.1
      have e3 : pp ≠ p := by grind
      have e4 : pp ≠ r := by grind
      have e5 : pp ≠ rl := by grind
      by_cases hc : L pp = some p
      · have e6 := h6 pp p e1.1 hc
        have e7 : R pp ≠ some p := by grind
        refine Tr.mk ?_ ?_ ?_ ?_ ?_ ?_ ?_ ?_ ?_ <;> (try simp only [up1, hpp, hc, if_true]) <;> grind [up1]
      · have e6 : R pp = some p := by grind
        have e7 := h7 pp p e1.1 e6
        refine Tr.mk ?_ ?_ ?_ ?_ ?_ ?_ ?_ ?_ ?_ <;> (try simp only [up1, hpp, hc, if_false]) <;> grind [up1]
theorem Tr.eq {S : Nat → Prop} {root : Nat} {h h' : Nat → Int} {P L R : Nat → Option Nat} {lo hi lo' hi' : Nat → Int} (H : Tr S root h P L R lo hi) (e1 : h = h') (e2 : lo = lo') (e3 : hi = hi') : Tr S root h' P L R lo' hi' := by
  subst e1 e2 e3
  exact H
/-- the rotation to the right at p, l its left child -/
theorem Tr.rotR {S : Nat → Prop} {root : Nat} {h : Nat → Int} {P L R : Nat → Option Nat} {lo hi : Nat → Int} {p l : Nat} (H : Tr S root h P L R lo hi) (hp : S p) (hl : L p = some l) :
   Tr S (if P p = none then l else root) h (rotP P (R l) p l) (ppR R (up1 L p (R l)) (P p) p l) (up1 (ppL R (P p) p l) l (some p)) (fun x => if x = l then lo p else if x = p then h l else lo x) (fun x => if x = l then hi p else if x = p then hi p else hi x) := by
  have := (H.mirror.rotL hp hl).mirror
  refine this.eq (by funext x; simp) ?_ ?_
  · funext x
    split
    · simp
    · split <;> simp
  · funext x
    split
    · simp
    · split <;> simp
/-- a new leaf to the left of p -/
theorem Tr.insL {S : Nat → Prop} {root : Nat} {h : Nat → Int} {P L R : Nat → Option Nat} {lo hi : Nat → Int} {p x : Nat} (H : Tr S root h P L R lo hi) (hp : S p) (hx : ¬ S x) (hL : L p = none) (h1 : lo p < h x) (h2 : h x < h p) (hLx : L x = none) (hRx : R x = none) :
   Tr (fun a => a = x ∨ S a) root h (up1 P x (some p)) (up1 L p (some x)) R (up1 lo x (lo p)) (up1 hi x (h p)) := by
  obtain ⟨a1, a2, a3, a4, a9, a5, a6, a7, a8⟩ := H
  have n1 : p ≠ x := fun e => hx (e ▸ hp)
  have n2 : root ≠ x := fun e => hx (e ▸ a1)
  have b1 := a5 p hp
  have b2 := a9 p hp
  refine Tr.mk ?_ ?_ ?_ ?_ ?_ ?_ ?_ ?_ ?_ <;> grind [up1]
theorem Tr.insR {S : Nat → Prop} {root : Nat} {h : Nat → Int} {P L R : Nat → Option Nat} {lo hi : Nat → Int} {p x : Nat} (H : Tr S root h P L R lo hi) (hp : S p) (hx : ¬ S x) (hR : R p = none) (h1 : h p < h x) (h2 : h x < hi p) (hLx : L x = none) (hRx : R x = none) :
   Tr (fun a => a = x ∨ S a) root h (up1 P x (some p)) L (up1 R p (some x)) (up1 lo x (h p)) (up1 hi x (hi p)) := by
  have := (H.mirror.insL (x := x) hp hx hR (by omega) (by omega) hRx hLx).mirror
  refine this.eq (by funext x; simp) ?_ ?_
  · funext y
    simp only [up1]
    split <;> simp
  · funext y
    simp only [up1]
    split <;> simp
/-- the first node -/
theorem Tr.one {h : Nat → Int} {P L R : Nat → Option Nat} {x : Nat} (hb : -2147483648 ≤ h x ∧ h x ≤ 2147483648) (hL : L x = none) (hR : R x = none) (hP : P x = none) : Tr (fun a => a = x) x h P L R (fun _ => -2147483649) (fun _ => 2147483649) := by
  refine Tr.mk ?_ ?_ ?_ ?_ ?_ ?_ ?_ ?_ ?_ <;> grind
/-- outside S the links don't matter -/
theorem Tr.congr {S : Nat → Prop} {root : Nat} {h h' : Nat → Int} {P L R P' L' R' : Nat → Option Nat} {lo hi : Nat → Int} (H : Tr S root h P L R lo hi) (e0 : ∀ a, S a → h' a = h a) (e1 : ∀ a, S a → P' a = P a) (e2 : ∀ a, S a → L' a = L a) (e3 : ∀ a, S a → R' a = R a) : Tr S root h' P' L' R' lo hi := by
  obtain ⟨a1, a2, a3, a4, a9, a5, a6, a7, a8⟩ := H
  refine Tr.mk ?_ ?_ ?_ ?_ ?_ ?_ ?_ ?_ ?_
  · exact a1
  · intro a ha; rw [e1 a ha]; exact a2 a ha
  · exact a3
  · exact a4
  · exact a9
  · intro a ha; rw [e0 a ha]; exact a5 a ha
  · intro a b ha hb
    rw [e2 a ha] at hb
    obtain ⟨b1, b2, b3, b4⟩ := a6 a b ha hb
    exact ⟨b1, by rw [e1 b b1]; exact b2, b3, by rw [e0 a ha]; exact b4⟩
  · intro a b ha hb
    rw [e3 a ha] at hb
    obtain ⟨b1, b2, b3, b4⟩ := a7 a b ha hb
    exact ⟨b1, by rw [e1 b b1]; exact b2, by rw [e0 a ha]; exact b3, b4⟩
  · intro a b ha hb
    rw [e1 a ha] at hb
    obtain ⟨b1, b2⟩ := a8 a b ha hb
    exact ⟨b1, by rw [e2 b b1, e3 b b1]; exact b2⟩
/-- c lies under p -/
def Anc (S : Nat → Prop) (P : Nat → Option Nat) (p c : Nat) : Prop := ∀ Q : Nat → Prop, Q c → (∀ a b, S a → P a = some b → Q a → Q b) → Q p
theorem Anc.rf {S : Nat → Prop} {P : Nat → Option Nat} (c : Nat) : Anc S P c c := fun _ h _ => h
theorem Anc.up {S : Nat → Prop} {P : Nat → Option Nat} {p a c : Nat} (hs : S a) (hp : P a = some p) (h : Anc S P a c) : Anc S P p c := fun Q h1 h2 => h2 a p hs hp (h Q h1 h2)
theorem Anc.cs {S : Nat → Prop} {P : Nat → Option Nat} {p c : Nat} (h : Anc S P p c) : p = c ∨ ∃ a, S a ∧ P a = some p ∧ Anc S P a c := h (fun p => p = c ∨ ∃ a, S a ∧ P a = some p ∧ Anc S P a c) (Or.inl rfl) (fun a _ hs hp ih => Or.inr ⟨a, hs, hp, by
  rcases ih with e | ⟨a', s', p', h'⟩
  · rw [e]
    exact Anc.rf c
  · exact Anc.up s' p' h'⟩)
theorem Tr.wid {S : Nat → Prop} {root : Nat} {h : Nat → Int} {P L R : Nat → Option Nat} {lo hi : Nat → Int} (H : Tr S root h P L R lo hi) {a b : Nat} (ha : S a) (hp : P a = some b) : S b ∧ lo b ≤ lo a ∧ hi a ≤ hi b ∧ hi a - lo a < hi b - lo b := by
  obtain ⟨hb, hc⟩ := H.pa a b ha hp
  have o1 := H.ord b hb
  rcases hc with hc | hc
  · obtain ⟨-, -, e1, e2⟩ := H.lf b a hb hc
    exact ⟨hb, by omega, by omega, by omega⟩
  · obtain ⟨-, -, e1, e2⟩ := H.rg b a hb hc
    exact ⟨hb, by omega, by omega, by omega⟩
theorem Tr.anc {S : Nat → Prop} {root : Nat} {h : Nat → Int} {P L R : Nat → Option Nat} {lo hi : Nat → Int} (H : Tr S root h P L R lo hi) {c : Nat} (hc : S c) : Anc S P root c := by
  have key : ∀ (n : Nat) (a : Nat), S a → 4294967299 - (hi a - lo a) ≤ (n : Int) → Anc S P a c → Anc S P root c := by
    intro n
    induction n with
    | zero =>
      intro a ha hn _
      have := H.bd a ha
      omega
    | succ n ih =>
      intro a ha hn hA
      cases hp : P a with
      | none =>
        rw [(H.rt a ha).mp hp] at hA
        exact hA
      | some b =>
        obtain ⟨hb, -, -, hw⟩ := H.wid ha hp
        exact ih b hb (by omega) (Anc.up ha hp hA)
  exact key (4294967299 - (hi c - lo c)).toNat c hc (by omega) (Anc.rf c)
theorem Tr.under {S : Nat → Prop} {root : Nat} {h : Nat → Int} {P L R : Nat → Option Nat} {lo hi : Nat → Int} (H : Tr S root h P L R lo hi) {p c : Nat} (hA : Anc S P p c) (hc : S c) : lo p ≤ lo c ∧ hi c ≤ hi p ∧ S p := by
  refine hA (fun p => lo p ≤ lo c ∧ hi c ≤ hi p ∧ S p) ⟨Int.le_refl _, Int.le_refl _, hc⟩ (fun a b hs hp ih => ?_)
  have := H.wid hs hp
  exact ⟨by omega, by omega, this.1⟩
/-- the search's step: a node with the hash sought, under p but not p, lies under the child on its side -/
theorem Tr.down {S : Nat → Prop} {root : Nat} {h : Nat → Int} {P L R : Nat → Option Nat} {lo hi : Nat → Int} (H : Tr S root h P L R lo hi) {p c : Nat} (hA : Anc S P p c) (hc : S c) (hne : h c ≠ h p) : (h c < h p ∧ ∃ q, L p = some q ∧ S q ∧ Anc S P q c) ∨ (h p < h c ∧ ∃ q, R p = some q ∧ S q ∧ Anc S P q c) := by
  rcases hA.cs with e | ⟨a, hs, hp, hA2⟩
  · exact absurd (by rw [e]) hne
  · obtain ⟨u1, u2, -⟩ := H.under hA2 hc
    have o := H.ord c hc
    obtain ⟨hb, hcc⟩ := H.pa a p hs hp
    rcases hcc with hcc | hcc
    · obtain ⟨-, -, e1, e2⟩ := H.lf p a hb hcc
      exact Or.inl ⟨by omega, a, hcc, hs, hA2⟩
    · obtain ⟨-, -, e1, e2⟩ := H.rg p a hb hcc
      exact Or.inr ⟨by omega, a, hcc, hs, hA2⟩
/-- hashes tell nodes apart -/
theorem Tr.inj {S : Nat → Prop} {root : Nat} {h : Nat → Int} {P L R : Nat → Option Nat} {lo hi : Nat → Int} (H : Tr S root h P L R lo hi) {a b : Nat} (ha : S a) (hb : S b) (e : h a = h b) : a = b := by
  have key : ∀ (n : Nat) (p : Nat), S p → (hi p - lo p) ≤ (n : Int) → Anc S P p a → Anc S P p b → a = b := by
    intro n
    induction n with
    | zero =>
      intro p hp hn _ _
      have := H.ord p hp
      omega
    | succ n ih =>
      intro p hp hn hA hB
      by_cases ea : h a = h p
      · have f : ∀ c, S c → h c = h p → Anc S P p c → c = p := by
          intro c hc ec hC
          rcases hC.cs with e | ⟨q, hs, hq, hC2⟩
          · exact e.symm
          · exfalso
            obtain ⟨u1, u2, -⟩ := H.under hC2 hc
            have o := H.ord c hc
            obtain ⟨hb, hcc⟩ := H.pa q p hs hq
            rcases hcc with hcc | hcc
            · obtain ⟨-, -, e1, e2⟩ := H.lf p q hb hcc
              omega
            · obtain ⟨-, -, e1, e2⟩ := H.rg p q hb hcc
              omega
        rw [f a ha ea hA, f b hb (by omega) hB]
      · rcases H.down hA ha ea with ⟨l1, q, l2, l3, l4⟩ | ⟨l1, q, l2, l3, l4⟩
        · rcases H.down hB hb (by omega) with ⟨m1, q', m2, m3, m4⟩ | ⟨m1, q', m2, m3, m4⟩
          · rw [l2] at m2
            cases m2
            obtain ⟨-, -, e1, e2⟩ := H.lf p q hp l2
            have := H.ord p hp
            exact ih q l3 (by omega) l4 m4
          · omega
        · rcases H.down hB hb (by omega) with ⟨m1, q', m2, m3, m4⟩ | ⟨m1, q', m2, m3, m4⟩
          · omega
          · rw [l2] at m2
            cases m2
            obtain ⟨-, -, e1, e2⟩ := H.rg p q hp l2
            have := H.ord p hp
            exact ih q l3 (by omega) l4 m4
  exact key (hi root - lo root).toNat root H.inS (by omega) (H.anc ha) (H.anc hb)
