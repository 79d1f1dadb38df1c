/-! ===== HASHMAP: resize, the plain bins ===== -/
theorem Z.nw_nx {g : Gx} {x : Cx} {nL pc : Nat} {Lc : List (Option Value)} {st : List Value} {w0 w : Wd} {kc ks a : Nat} {S : Nat → Prop} {h : Nat → Int32} {k v : Nat → Nat} {nx : Nat → Option Nat} (y : Option Nat) (hN : NW w S h k v nx) (hB : FrB S w0 w) (ha : S a) (kk : ∀ w1, NW w1 S h k v (up1 nx a y) → FrB S w0 w1 → Z g x nL pc Lc st w1 kc ks) : Z g x nL pc Lc st (wset w a (ob 8 [.int (h a), .ref (k a), .ref (v a), va_rf y]) 5) kc ks := by
  refine kk _ (fun b hb => ?_) (hB.set ha)
  by_cases e : b = a
  · subst e
    rw [ws_s]
    simp only [eNd, up1_s]
  · rw [ws_n e, hN b hb]
    simp only [eNd, up1_n e]
theorem seg_push {nx : Nat → Option Nat} {C0 : List Nat} {t q : Nat} {z : Option Nat} (hs : seg nx (C0 ++ [t]) z) (hnd : (C0 ++ [t]).Nodup) : seg (up1 nx t (some q)) (C0 ++ [t]) (some q) := by
  rw [seg_app] at hs ⊢
  have htC : t ∉ C0 := fun e => (List.nodup_append.mp hnd).2.2 t e t (by simp) rfl
  exact ⟨seg_eq (fun a ha => up1_n (fun e => htC (by rw [← e]; exact ha))) hs.1, up1_s, trivial⟩
theorem seg_end {nx : Nat → Option Nat} {C0 : List Nat} {t : Nat} {z : Option Nat} (hs : seg nx (C0 ++ [t]) z) (hnd : (C0 ++ [t]).Nodup) : seg (up1 nx t none) (C0 ++ [t]) none := by
  rw [seg_app] at hs ⊢
  have htC : t ∉ C0 := fun e => (List.nodup_append.mp hnd).2.2 t e t (by simp) rfl
  exact ⟨seg_eq (fun a ha => up1_n (fun e => htC (by rw [← e]; exact ha))) hs.1, up1_s, trivial⟩
def PlS (w0 w : Wd) (B D r : List Nat) (h : Nat → Int32) (k v : Nat → Nat) (pl ph : Nat → Bool) (nx : Nat → Option Nat) : Prop := ∃ nx', NW w (fun a => a ∈ B) h k v nx' ∧ FrB (fun a => a ∈ B) w0 w ∧ (∃ z, seg nx' (D.filter pl) z) ∧ (∃ z, seg nx' (D.filter ph) z) ∧ ∀ a, a ∈ r → nx' a = nx a
theorem pl_push {nx' : Nat → Option Nat} {D r : List Nat} {pl ph : Nat → Bool} {e : Nat} (hph : ∀ a, ph a = !pl a) (hnd : (D ++ e :: r).Nodup) (h1 : ∃ z, seg nx' (D.filter pl) z) (h3 : ∃ z, seg nx' (D.filter ph) z) (he : pl e = true) :
    ((D ++ [e]).filter pl = D.filter pl ++ [e]) ∧ ((D ++ [e]).filter ph = D.filter ph) ∧
    (D.filter pl = [] → ∃ z, seg nx' (D.filter pl ++ [e]) z) ∧
    (∀ t, lst (D.filter pl) none = some t → t ∈ D ∧ (∃ z, seg (up1 nx' t (some e)) (D.filter pl ++ [e]) z) ∧ (∃ z, seg (up1 nx' t (some e)) (D.filter ph) z) ∧ ∀ a, a ∈ r → up1 nx' t (some e) a = nx' a) := by
  rw [List.nodup_append] at hnd
  obtain ⟨n1, n2, n3⟩ := hnd
  refine ⟨by rw [List.filter_append]; simp [he], by rw [List.filter_append]; simp [hph, he], fun e0 => by rw [e0]; exact ⟨_, rfl, trivial⟩, ?_⟩
  intro t ht
  obtain ⟨z1, h1⟩ := h1
  obtain ⟨z3, h3⟩ := h3
  have hne : D.filter pl ≠ [] := fun q => by rw [q] at ht; cases ht
  obtain ⟨C0, t', e1, e2⟩ := lst_snoc hne
  rw [ht] at e2
  cases e2
  have htL : t ∈ D.filter pl := by rw [e1]; simp
  have htD := (List.mem_filter.mp htL).1
  have htp : pl t = true := (List.mem_filter.mp htL).2
  have hnd1 : (D.filter pl).Nodup := n1.filter _
  refine ⟨htD, ?_, ⟨z3, seg_eq (fun a ha => up1_n (fun q => ?_)) h3⟩, fun a ha => up1_n (fun q => n3 t htD a (by simp [ha]) q.symm)⟩
  · rw [e1] at h1 hnd1 ⊢
    refine ⟨up1 nx' t (some e) e, ?_⟩
    rw [seg_app]
    exact ⟨seg_push h1 hnd1, rfl, trivial⟩
  · have := (List.mem_filter.mp ha).2
    rw [q, hph, htp] at this
    cases this
section RZ
variable {g : Gx} {h : Nat → Int32} {k v : Nat → Nat} {nx : Nat → Option Nat}
theorem rz_step1 {x : Cx} {w0 w : Wd} {T T2 bt j e : Nat} {l0 l3 l4 l5 : Value} {l13 : Option Value} {B D r : List Nat} {pl ph : Nat → Bool} {kc ks : Nat} (ok : OK g x RJ4 cJ4_resize 14 5 (some (.array (.object "java/util/HashMap$Node")))) (hpl : ∀ a, pl a = decide (h a &&& nI bt = 0)) (hph : ∀ a, ph a = !pl a) (hseg : seg nx B none) (hnd : B.Nodup) (hD : B = D ++ e :: r) (hS : PlS w0 w B D (e :: r) h k v pl ph nx)
    (next : ∀ (w3 : Wd), PlS w0 w3 B (D ++ [e]) r h k v pl ph nx → Z g x 14 306 [some l0, some (.ref T), some (.int (nI bt)), some l3, some l4, some l5, some (.ref T2), some (.int (nI j)), some (va_rf (hd r none)), some (va_rf (hd ((D ++ [e]).filter pl) none)), some (va_rf (lst ((D ++ [e]).filter pl) none)), some (va_rf (hd ((D ++ [e]).filter ph) none)), some (va_rf (lst ((D ++ [e]).filter ph) none)), some (va_rf (hd r none))] [va_rf (hd r none)] w3 kc ks) : Z g x 14 235 [some l0, some (.ref T), some (.int (nI bt)), some l3, some l4, some l5, some (.ref T2), some (.int (nI j)), some (.ref e), some (va_rf (hd (D.filter pl) none)), some (va_rf (lst (D.filter pl) none)), some (va_rf (hd (D.filter ph) none)), some (va_rf (lst (D.filter ph) none)), l13] [] w kc ks := by
    obtain ⟨nx', hN, hB, s1, s2, s5⟩ := hS
    have te : (fun a => a ∈ B) e := by show e ∈ B; rw [hD]; simp
    have hx : nx' e = hd r none := by
      rw [s5 e (by simp)]
      rw [hD, seg_app] at hseg
      exact hseg.2.1
    refine Z.aload ok dJ4_resize_235 rfl (by first | exact isRf.r _ | exact isRf.n | exact isRf.v _ | assumption) ?_
    refine Z.get (ci := 8) (C := RJ26) (T := TJ26) (N := 4) ok (hN _ te) rfl in_J26 3 (by decide) q1278 (Or.inl rfl) (by rfl) dJ4_resize_237 ?_
    rw [hx]
    refine Z.astore ok dJ4_resize_240 (by decide) (by first | exact isRf.r _ | exact isRf.n | exact isRf.v _ | assumption) ?_
    refine Z.aload ok dJ4_resize_242 rfl (by first | exact isRf.r _ | exact isRf.n | exact isRf.v _ | assumption) ?_
    refine Z.get (ci := 8) (C := RJ26) (T := TJ26) (N := 4) ok (hN _ te) rfl in_J26 0 (by decide) q1267 (Or.inl rfl) (by rfl) dJ4_resize_244 ?_
    refine Z.iload_n ok dJ4_resize_247 rfl ?_
    refine Z.iand ok dJ4_resize_248 ?_
    rw [hD] at hnd
    cases hple : pl e with
    | true =>
      · obtain ⟨f1, f2, f3, f4⟩ := pl_push hph hnd s1 s2 hple
        have hz : h e &&& nI bt = 0 := by rw [hpl] at hple; exact of_decide_eq_true hple
        refine Z.if_ne (tgt := 278) ok dJ4_resize_249 (by decide) (fun hc => absurd hz hc) (fun _ => ?_)
        have fin : ∀ (w3 : Wd) (nx3 : Nat → Option Nat) (lt : Option Value), NW w3 (fun a => a ∈ B) h k v nx3 → FrB (fun a => a ∈ B) w0 w3 → (∃ z, seg nx3 (D.filter pl ++ [e]) z) → (∃ z, seg nx3 (D.filter ph) z) → (∀ a, a ∈ r → nx3 a = nx' a) → Z g x 14 271 [some l0, some (.ref T), some (.int (nI bt)), some l3, some l4, some l5, some (.ref T2), some (.int (nI j)), some (.ref e), some (va_rf (hd ((D ++ [e]).filter pl) none)), lt, some (va_rf (hd (D.filter ph) none)), some (va_rf (lst (D.filter ph) none)), some (va_rf (hd r none))] [] w3 kc ks := by
          intro w3 nx3 lt hN hB g1 g2 g3
          refine Z.aload ok dJ4_resize_271 rfl (by first | exact isRf.r _ | exact isRf.n | exact isRf.v _ | assumption) ?_
          refine Z.astore ok dJ4_resize_273 (by decide) (by first | exact isRf.r _ | exact isRf.n | exact isRf.v _ | assumption) ?_
          refine Z.goto (tgt := 301) ok dJ4_resize_275 (by decide) ?_
          refine Z.aload ok dJ4_resize_301 rfl (by first | exact isRf.r _ | exact isRf.n | exact isRf.v _ | assumption) ?_
          refine Z.dup ok dJ4_resize_303 (by first | rfl | exact cat_rf _) ?_
          refine Z.astore ok dJ4_resize_304 (by decide) (by first | exact isRf.r _ | exact isRf.n | exact isRf.v _ | assumption) ?_
          have hS' : PlS w0 w3 B (D ++ [e]) r h k v pl ph nx := by
            refine ⟨nx3, hN, hB, ?_⟩
            rw [f1, f2]
            exact ⟨g1, g2, fun a ha => (g3 a ha).trans (s5 a (by simp [ha]))⟩
          rw [f1]
          have hk := next w3 hS'
          rw [f1, f2, lst_last] at hk
          exact hk
        refine Z.aload ok dJ4_resize_252 rfl (by first | exact isRf.r _ | exact isRf.n | exact isRf.v _ | assumption) ?_
        refine Z.ifnonnull (tgt := 264) ok dJ4_resize_254 (by decide) (fun t hl => ?_) (fun hl => ?_)
        · obtain ⟨ht, g1, g2, g3⟩ := f4 t hl
          have tt : (fun a => a ∈ B) t := by show t ∈ B; rw [hD]; simp [ht]
          have hne : D.filter pl ≠ [] := fun q => by rw [q] at hl; cases hl
          have fin := fin
          rw [f1, hd_ne (e' := none) hne] at fin
          rw [hl]
          refine Z.aload ok dJ4_resize_264 rfl (by first | exact isRf.r _ | exact isRf.n | exact isRf.v _ | assumption) ?_
          refine Z.aload ok dJ4_resize_266 rfl (by first | exact isRf.r _ | exact isRf.n | exact isRf.v _ | assumption) ?_
          refine Z.put (ci := 8) (C := RJ26) (T := TJ26) (N := 4) (ty0 := tyJ26) ok (by exact hN _ tt) (by first | decide | assumption) rfl in_J26 tyJ26_ok nmJ26 3 (by decide) q1278 (Or.inl rfl) rfl (okV_o (by first | exact isRf.r _ | exact isRf.n | exact isRf.v _ | assumption)) (by rfl) dJ4_resize_268 ?_
          refine Z.nw_nx (some e) hN hB tt (fun w3 hN hB => ?_)
          exact fin w3 _ _ hN hB g1 g2 (fun a ha => g3 a ha)
        · have hne : D.filter pl = [] := by
            cases hc : D.filter pl with
            | nil => rfl
            | cons a q =>
              obtain ⟨_, t, _, e2⟩ := lst_snoc (C := D.filter pl) (by rw [hc]; simp)
              rw [hl] at e2
              cases e2
          have g1 := f3 hne
          have fin := fin
          rw [f1] at fin
          rw [hne] at fin g1 ⊢
          refine Z.aload ok dJ4_resize_257 rfl (by first | exact isRf.r _ | exact isRf.n | exact isRf.v _ | assumption) ?_
          refine Z.astore ok dJ4_resize_259 (by decide) (by first | exact isRf.r _ | exact isRf.n | exact isRf.v _ | assumption) ?_
          refine Z.goto (tgt := 271) ok dJ4_resize_261 (by decide) ?_
          exact fin w _ _ hN hB g1 s2 (fun _ _ => rfl)
    | false =>
      · obtain ⟨f1, f2, f3, f4⟩ := pl_push (pl := ph) (ph := pl) (fun a => by rw [hph, Bool.not_not]) hnd s2 s1 (by rw [hph, hple]; rfl)
        have hz : ¬ h e &&& nI bt = 0 := by rw [hpl] at hple; exact of_decide_eq_false hple
        refine Z.if_ne (tgt := 278) ok dJ4_resize_249 (by decide) (fun _ => ?_) (fun hc => absurd hc hz)
        have fin : ∀ (w3 : Wd) (nx3 : Nat → Option Nat) (lt : Option Value), NW w3 (fun a => a ∈ B) h k v nx3 → FrB (fun a => a ∈ B) w0 w3 → (∃ z, seg nx3 (D.filter ph ++ [e]) z) → (∃ z, seg nx3 (D.filter pl) z) → (∀ a, a ∈ r → nx3 a = nx' a) → Z g x 14 297 [some l0, some (.ref T), some (.int (nI bt)), some l3, some l4, some l5, some (.ref T2), some (.int (nI j)), some (.ref e), some (va_rf (hd (D.filter pl) none)), some (va_rf (lst (D.filter pl) none)), some (va_rf (hd ((D ++ [e]).filter ph) none)), lt, some (va_rf (hd r none))] [] w3 kc ks := by
          intro w3 nx3 lt hN hB g1 g2 g3
          refine Z.aload ok dJ4_resize_297 rfl (by first | exact isRf.r _ | exact isRf.n | exact isRf.v _ | assumption) ?_
          refine Z.astore ok dJ4_resize_299 (by decide) (by first | exact isRf.r _ | exact isRf.n | exact isRf.v _ | assumption) ?_
          refine Z.aload ok dJ4_resize_301 rfl (by first | exact isRf.r _ | exact isRf.n | exact isRf.v _ | assumption) ?_
          refine Z.dup ok dJ4_resize_303 (by first | rfl | exact cat_rf _) ?_
          refine Z.astore ok dJ4_resize_304 (by decide) (by first | exact isRf.r _ | exact isRf.n | exact isRf.v _ | assumption) ?_
          have hS' : PlS w0 w3 B (D ++ [e]) r h k v pl ph nx := by
            refine ⟨nx3, hN, hB, ?_⟩
            rw [f1, f2]
            exact ⟨g2, g1, fun a ha => (g3 a ha).trans (s5 a (by simp [ha]))⟩
          rw [f1]
          have hk := next w3 hS'
          rw [f1, f2, lst_last] at hk
          exact hk
        refine Z.aload ok dJ4_resize_278 rfl (by first | exact isRf.r _ | exact isRf.n | exact isRf.v _ | assumption) ?_
        refine Z.ifnonnull (tgt := 290) ok dJ4_resize_280 (by decide) (fun t hl => ?_) (fun hl => ?_)
        · obtain ⟨ht, g1, g2, g3⟩ := f4 t hl
          have tt : (fun a => a ∈ B) t := by show t ∈ B; rw [hD]; simp [ht]
          have hne : D.filter ph ≠ [] := fun q => by rw [q] at hl; cases hl
          have fin := fin
          rw [f1, hd_ne (e' := none) hne] at fin
          rw [hl]
          refine Z.aload ok dJ4_resize_290 rfl (by first | exact isRf.r _ | exact isRf.n | exact isRf.v _ | assumption) ?_
          refine Z.aload ok dJ4_resize_292 rfl (by first | exact isRf.r _ | exact isRf.n | exact isRf.v _ | assumption) ?_
          refine Z.put (ci := 8) (C := RJ26) (T := TJ26) (N := 4) (ty0 := tyJ26) ok (by exact hN _ tt) (by first | decide | assumption) rfl in_J26 tyJ26_ok nmJ26 3 (by decide) q1278 (Or.inl rfl) rfl (okV_o (by first | exact isRf.r _ | exact isRf.n | exact isRf.v _ | assumption)) (by rfl) dJ4_resize_294 ?_
          refine Z.nw_nx (some e) hN hB tt (fun w3 hN hB => ?_)
          exact fin w3 _ _ hN hB g1 g2 (fun a ha => g3 a ha)
        · have hne : D.filter ph = [] := by
            cases hc : D.filter ph with
            | nil => rfl
            | cons a q =>
              obtain ⟨_, t, _, e2⟩ := lst_snoc (C := D.filter ph) (by rw [hc]; simp)
              rw [hl] at e2
              cases e2
          have g1 := f3 hne
          have fin := fin
          rw [f1] at fin
          rw [hne] at fin g1 ⊢
          refine Z.aload ok dJ4_resize_283 rfl (by first | exact isRf.r _ | exact isRf.n | exact isRf.v _ | assumption) ?_
          refine Z.astore ok dJ4_resize_285 (by decide) (by first | exact isRf.r _ | exact isRf.n | exact isRf.v _ | assumption) ?_
          refine Z.goto (tgt := 297) ok dJ4_resize_287 (by decide) ?_
          exact fin w _ _ hN hB g1 s1 (fun _ _ => rfl)
theorem rz_plain {x : Cx} {w0 : Wd} {T T2 bt j : Nat} {l0 l3 l4 l5 : Value} {B : List Nat} {pl ph : Nat → Bool} {kc ks : Nat} (ok : OK g x RJ4 cJ4_resize 14 5 (some (.array (.object "java/util/HashMap$Node")))) (hpl : ∀ a, pl a = decide (h a &&& nI bt = 0)) (hph : ∀ a, ph a = !pl a) (hseg : seg nx B none) (hnd : B.Nodup)
    (kont : ∀ (w : Wd) (l13 : Option Value), PlS w0 w B B [] h k v pl ph nx → Z g x 14 309 [some l0, some (.ref T), some (.int (nI bt)), some l3, some l4, some l5, some (.ref T2), some (.int (nI j)), some .null, some (va_rf (hd (B.filter pl) none)), some (va_rf (lst (B.filter pl) none)), some (va_rf (hd (B.filter ph) none)), some (va_rf (lst (B.filter ph) none)), l13] [] w kc ks) : ∀ (r : List Nat) (e : Nat) (D : List Nat) (w : Wd) (l13 : Option Value), B = D ++ e :: r → PlS w0 w B D (e :: r) h k v pl ph nx → Z g x 14 235 [some l0, some (.ref T), some (.int (nI bt)), some l3, some l4, some l5, some (.ref T2), some (.int (nI j)), some (.ref e), some (va_rf (hd (D.filter pl) none)), some (va_rf (lst (D.filter pl) none)), some (va_rf (hd (D.filter ph) none)), some (va_rf (lst (D.filter ph) none)), l13] [] w kc ks := by
  intro r
  induction r with
  | nil =>
    intro e D w l13 hD hS
    exact rz_step1 (r := []) ok hpl hph hseg hnd hD hS (fun w3 hS' => by
      have hD' : B = D ++ [e] := hD
      rw [← hD'] at hS' ⊢
      refine Z.ifnonnullN ok dJ4_resize_306 ?_
      exact kont w3 _ hS')
  | cons e2 r ih =>
    intro e D w l13 hD hS
    exact rz_step1 (r := e2 :: r) ok hpl hph hseg hnd hD hS (fun w3 hS' => by
      refine Z.ifnonnullR (tgt := 235) ok dJ4_resize_306 (by decide) ?_
      exact ih e2 (D ++ [e]) w3 _ (by rw [hD]; simp) hS')
end RZ
