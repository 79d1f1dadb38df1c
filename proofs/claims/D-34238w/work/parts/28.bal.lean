/-! ===== TREE NODES: balanceInsertion ===== -/
def BalP (w0 : Wd) (S S2 : Nat → Prop) (h : Nat → Int32) (k v : Nat → Nat) (nx pv : Nat → Option Nat) : Option Value → Wd → Prop := fun o w' => ∃ root P L R rd lo hi, o = some (.ref root) ∧ TW w' S h k v nx P L R pv rd ∧ Tr S2 root (fun a => (h a).toInt) P L R lo hi ∧ FrB S w0 w'
section BAL
variable {g : Gx} {w w0 : Wd} {S S2 : Nat → Prop} {h : Nat → Int32} {k v : Nat → Nat} {nx P L R pv : Nat → Option Nat} {rd : Nat → Int32} {lo hi : Nat → Int} {root a q u : Nat} {l2 l3 l4 l5 : Option Value} {x : Cx}
theorem bal_fin (ok : OK g x RJ28 cJ28_balanceInsertion 6 2 (some (.object "java/util/HashMap$TreeNode"))) (hQ : EndQ g x (BalP w0 S S2 h k v nx pv) noX) (hT : TW w S h k v nx P L R pv rd) (hB : FrB S w0 w) (hsub : ∀ a, S2 a → S a) (H : Tr S2 root (fun a => (h a).toInt) P L R lo hi) (sa : S2 a) (hrd : ∀ c, P a = some c → rd c = 0) : Z g x 6 5 [some (.ref root), some (.ref a), l2, l3, l4, l5] [] w 0 0 := by
  have ta := hsub a sa
  refine Z.aload_n ok dJ28_balanceInsertion_5 rfl (by first | exact isRf.r _ | exact isRf.n | exact isRf.v _ | assumption) ?_
  refine Z.get (ci := 9) (C := RJ28) (T := TJ28) (N := 11) ok (by first | assumption | exact ws_s | exact hT _ (by assumption) | (rw [ws_n (by assumption)]; assumption)) rfl in_J28 6 (by decide) q1327 (Or.inl rfl) (by rfl) dJ28_balanceInsertion_6 ?_
  refine Z.dup ok dJ28_balanceInsertion_9 (by first | rfl | exact cat_rf _) ?_
  refine Z.astore_n (i := 2) ok dJ28_balanceInsertion_10 rfl (by decide) (by first | exact isRf.r _ | exact isRf.n | exact isRf.v _ | assumption) ?_
  refine Z.ifnonnull (tgt := 21) ok dJ28_balanceInsertion_11 (by decide) (fun c hp => ?_) (fun hp => ?_)
  · have tc := hsub c (H.pa a c sa hp).1
    rw [hp]
    refine Z.aload_n ok dJ28_balanceInsertion_21 rfl (by first | exact isRf.r _ | exact isRf.n | exact isRf.v _ | assumption) ?_
    refine Z.get (ci := 9) (C := RJ28) (T := TJ28) (N := 11) ok (by first | assumption | exact ws_s | exact hT _ (by assumption) | (rw [ws_n (by assumption)]; assumption)) rfl in_J28 10 (by decide) q1332 (Or.inl rfl) (by rfl) dJ28_balanceInsertion_22 ?_
    refine Z.if_eq (tgt := 37) ok dJ28_balanceInsertion_25 (by decide) (fun _ => ?_) (fun hc => absurd (hrd c hp) hc)
    refine Z.aload_n ok dJ28_balanceInsertion_37 rfl (by first | exact isRf.r _ | exact isRf.n | exact isRf.v _ | assumption) ?_
    refine Z.aret ok hQ (by first | exact Or.inl ⟨_, rfl⟩ | exact Or.inr ⟨_, rfl⟩) (by first | exact isRf.r _ | exact isRf.n | exact isRf.v _ | assumption) dJ28_balanceInsertion_38 ?_
    exact ⟨root, P, L, R, rd, lo, hi, rfl, hT, H, hB⟩
  · refine Z.aload_n ok dJ28_balanceInsertion_14 rfl (by first | exact isRf.r _ | exact isRf.n | exact isRf.v _ | assumption) ?_
    refine Z.iconst_0 ok dJ28_balanceInsertion_15 ?_
    refine Z.put (ci := 9) (C := RJ28) (T := TJ28) (N := 11) (ty0 := tyJ28) ok (by first | assumption | exact ws_s | exact hT _ (by assumption) | (rw [ws_n (by assumption)]; assumption)) (by first | decide | assumption) rfl in_J28 tyJ28_ok nmJ28 10 (by decide) q1332 (Or.inl rfl) rfl (by first | exact okV_z0 | exact okV_z1) (by rfl) dJ28_balanceInsertion_16 ?_
    refine Z.tw_rd (0) hT hB (by assumption) (fun w1 hT hB => ?_)
    refine Z.aload_n ok dJ28_balanceInsertion_19 rfl (by first | exact isRf.r _ | exact isRf.n | exact isRf.v _ | assumption) ?_
    refine Z.aret ok hQ (by first | exact Or.inl ⟨_, rfl⟩ | exact Or.inr ⟨_, rfl⟩) (by first | exact isRf.r _ | exact isRf.n | exact isRf.v _ | assumption) dJ28_balanceInsertion_20 ?_
    rw [(H.rt a sa).mp hp]
    exact ⟨root, P, L, R, _, lo, hi, rfl, hT, H, hB⟩
/-- a is q's left child, q is u's left child: rotate at u -/
theorem bal_R (ok : OK g x RJ28 cJ28_balanceInsertion 6 2 (some (.object "java/util/HashMap$TreeNode"))) (hQ : EndQ g x (BalP w0 S S2 h k v nx pv) noX) (hT : TW w S h k v nx P L R pv rd) (hB : FrB S w0 w) (hsub : ∀ a, S2 a → S a) (H : Tr S2 root (fun a => (h a).toInt) P L R lo hi) (sq : S2 q) (su : S2 u) (h1 : L q = some a) (h2 : L u = some q) : Z g x 6 123 [some (.ref root), some (.ref a), some (.ref q), some (.ref u), l4, l5] [] w 0 0 := by
  have tq := hsub q sq
  have tu := hsub u su
  have c1 := H.lf q a sq h1
  have c2 := H.lf u q su h2
  have o1 := H.ord a c1.1
  have o2 := H.ord q sq
  have o3 := H.ord u su
  have nqu : q ≠ u := fun e => by rw [e] at c2 o2; (try simp only [] at c2 o2 o3); omega
  have nau : a ≠ u := fun e => by rw [e] at c1 o1; (try simp only [] at c1 c2 o1 o2 o3); omega
  have naq : a ≠ q := fun e => by rw [e] at c1 o1; (try simp only [] at c1 c2 o1 o2 o3); omega
  refine Z.aload_n ok dJ28_balanceInsertion_123 rfl (by first | exact isRf.r _ | exact isRf.n | exact isRf.v _ | assumption) ?_
  refine Z.ifnullR ok dJ28_balanceInsertion_124 ?_
  refine Z.aload_n ok dJ28_balanceInsertion_127 rfl (by first | exact isRf.r _ | exact isRf.n | exact isRf.v _ | assumption) ?_
  refine Z.iconst_0 ok dJ28_balanceInsertion_128 ?_
  refine Z.put (ci := 9) (C := RJ28) (T := TJ28) (N := 11) (ty0 := tyJ28) ok (by first | assumption | exact ws_s | exact hT _ (by assumption) | (rw [ws_n (by assumption)]; assumption)) (by first | decide | assumption) rfl in_J28 tyJ28_ok nmJ28 10 (by decide) q1332 (Or.inl rfl) rfl (by first | exact okV_z0 | exact okV_z1) (by rfl) dJ28_balanceInsertion_129 ?_
  refine Z.tw_rd (0) hT hB (by assumption) (fun w1 hT hB => ?_)
  refine Z.aload_n ok dJ28_balanceInsertion_132 rfl (by first | exact isRf.r _ | exact isRf.n | exact isRf.v _ | assumption) ?_
  refine Z.ifnullR ok dJ28_balanceInsertion_133 ?_
  refine Z.aload_n ok dJ28_balanceInsertion_136 rfl (by first | exact isRf.r _ | exact isRf.n | exact isRf.v _ | assumption) ?_
  refine Z.iconst_1 ok dJ28_balanceInsertion_137 ?_
  refine Z.put (ci := 9) (C := RJ28) (T := TJ28) (N := 11) (ty0 := tyJ28) ok (by first | assumption | exact ws_s | exact hT _ (by assumption) | (rw [ws_n (by assumption)]; assumption)) (by first | decide | assumption) rfl in_J28 tyJ28_ok nmJ28 10 (by decide) q1332 (Or.inl rfl) rfl (by first | exact okV_z0 | exact okV_z1) (by rfl) dJ28_balanceInsertion_138 ?_
  refine Z.tw_rd (1) hT hB (by assumption) (fun w2 hT hB => ?_)
  refine Z.aload_n ok dJ28_balanceInsertion_141 rfl (by first | exact isRf.r _ | exact isRf.n | exact isRf.v _ | assumption) ?_
  refine Z.aload_n ok dJ28_balanceInsertion_142 rfl (by first | exact isRf.r _ | exact isRf.n | exact isRf.v _ | assumption) ?_
  refine Z.callS ok (rotR_ct hT hsub H su h2) q1299 q1300 q54 q1301 nk_J28_rotateRight rfl (by decide) (by first | exact Nat.le_of_ble_eq_true rfl | simp [Value.category, cat_rf]) (Nat.le_refl _) (Nat.le_refl _) dJ28_balanceInsertion_143 rfl ZX.no (fun v w3 hp => ?_)
  obtain ⟨rd', rfl, hT3, hrd, hB3⟩ := hp
  have H3 := H.rotR su h2
  refine Z.astore_n (i := 0) ok dJ28_balanceInsertion_146 rfl (by decide) (by first | exact isRf.r _ | exact isRf.n | exact isRf.v _ | assumption) ?_
  refine Z.goto (tgt := 5) ok dJ28_balanceInsertion_147 (by decide) ?_
  refine bal_fin ok hQ hT3 (hB.tr hB3) hsub H3 c1.1 (fun c hc => ?_)
  have e1 : rotP P (R q) u q a = some q := by
    have e2 : ∀ y, R q = some y → a ≠ y := fun y hy e => by
      have c3 := H.rg q y sq hy
      rw [← e] at c3
      (try simp only [] at c1 c3 o1 o2)
      omega
    unfold rotP
    rw [up1_n nau, up1_n naq]
    cases hy : R q with
    | none => exact c1.2.1
    | some y => exact (up1_n (e2 y hy)).trans c1.2.1
  rw [e1] at hc
  cases hc
  have e3 : up1 (up1 rd q 0) u 1 q = 0 := by rw [up1_n nqu, up1_s]
  rcases hrd with e | e <;> rw [e]
  · exact e3
  · exact up1_s
/-- a is q's right child, q is u's right child: rotate at u -/
theorem bal_L (ok : OK g x RJ28 cJ28_balanceInsertion 6 2 (some (.object "java/util/HashMap$TreeNode"))) (hQ : EndQ g x (BalP w0 S S2 h k v nx pv) noX) (hT : TW w S h k v nx P L R pv rd) (hB : FrB S w0 w) (hsub : ∀ a, S2 a → S a) (H : Tr S2 root (fun a => (h a).toInt) P L R lo hi) (sq : S2 q) (su : S2 u) (h1 : R q = some a) (h2 : R u = some q) : Z g x 6 218 [some (.ref root), some (.ref a), some (.ref q), some (.ref u), l4, l5] [] w 0 0 := by
  have tq := hsub q sq
  have tu := hsub u su
  have c1 := H.rg q a sq h1
  have c2 := H.rg u q su h2
  have o1 := H.ord a c1.1
  have o2 := H.ord q sq
  have o3 := H.ord u su
  have nqu : q ≠ u := fun e => by rw [e] at c2 o2; (try simp only [] at c2 o2 o3); omega
  have nau : a ≠ u := fun e => by rw [e] at c1 o1; (try simp only [] at c1 c2 o1 o2 o3); omega
  have naq : a ≠ q := fun e => by rw [e] at c1 o1; (try simp only [] at c1 c2 o1 o2 o3); omega
  refine Z.aload_n ok dJ28_balanceInsertion_218 rfl (by first | exact isRf.r _ | exact isRf.n | exact isRf.v _ | assumption) ?_
  refine Z.ifnullR ok dJ28_balanceInsertion_219 ?_
  refine Z.aload_n ok dJ28_balanceInsertion_222 rfl (by first | exact isRf.r _ | exact isRf.n | exact isRf.v _ | assumption) ?_
  refine Z.iconst_0 ok dJ28_balanceInsertion_223 ?_
  refine Z.put (ci := 9) (C := RJ28) (T := TJ28) (N := 11) (ty0 := tyJ28) ok (by first | assumption | exact ws_s | exact hT _ (by assumption) | (rw [ws_n (by assumption)]; assumption)) (by first | decide | assumption) rfl in_J28 tyJ28_ok nmJ28 10 (by decide) q1332 (Or.inl rfl) rfl (by first | exact okV_z0 | exact okV_z1) (by rfl) dJ28_balanceInsertion_224 ?_
  refine Z.tw_rd (0) hT hB (by assumption) (fun w1 hT hB => ?_)
  refine Z.aload_n ok dJ28_balanceInsertion_227 rfl (by first | exact isRf.r _ | exact isRf.n | exact isRf.v _ | assumption) ?_
  refine Z.ifnullR ok dJ28_balanceInsertion_228 ?_
  refine Z.aload_n ok dJ28_balanceInsertion_231 rfl (by first | exact isRf.r _ | exact isRf.n | exact isRf.v _ | assumption) ?_
  refine Z.iconst_1 ok dJ28_balanceInsertion_232 ?_
  refine Z.put (ci := 9) (C := RJ28) (T := TJ28) (N := 11) (ty0 := tyJ28) ok (by first | assumption | exact ws_s | exact hT _ (by assumption) | (rw [ws_n (by assumption)]; assumption)) (by first | decide | assumption) rfl in_J28 tyJ28_ok nmJ28 10 (by decide) q1332 (Or.inl rfl) rfl (by first | exact okV_z0 | exact okV_z1) (by rfl) dJ28_balanceInsertion_233 ?_
  refine Z.tw_rd (1) hT hB (by assumption) (fun w2 hT hB => ?_)
  refine Z.aload_n ok dJ28_balanceInsertion_236 rfl (by first | exact isRf.r _ | exact isRf.n | exact isRf.v _ | assumption) ?_
  refine Z.aload_n ok dJ28_balanceInsertion_237 rfl (by first | exact isRf.r _ | exact isRf.n | exact isRf.v _ | assumption) ?_
  refine Z.callS ok (rotL_ct hT hsub H su h2) q1296 q1297 q54 q1298 nk_J28_rotateLeft rfl (by decide) (by first | exact Nat.le_of_ble_eq_true rfl | simp [Value.category, cat_rf]) (Nat.le_refl _) (Nat.le_refl _) dJ28_balanceInsertion_238 rfl ZX.no (fun v w3 hp => ?_)
  obtain ⟨rd', rfl, hT3, hrd, hB3⟩ := hp
  have H3 := H.rotL su h2
  refine Z.astore_n (i := 0) ok dJ28_balanceInsertion_241 rfl (by decide) (by first | exact isRf.r _ | exact isRf.n | exact isRf.v _ | assumption) ?_
  refine Z.goto (tgt := 5) ok dJ28_balanceInsertion_242 (by decide) ?_
  refine bal_fin ok hQ hT3 (hB.tr hB3) hsub H3 c1.1 (fun c hc => ?_)
  have e1 : rotP P (L q) u q a = some q := by
    have e2 : ∀ y, L q = some y → a ≠ y := fun y hy e => by
      have c3 := H.lf q y sq hy
      rw [← e] at c3
      (try simp only [] at c1 c3 o1 o2)
      omega
    unfold rotP
    rw [up1_n nau, up1_n naq]
    cases hy : L q with
    | none => exact c1.2.1
    | some y => exact (up1_n (e2 y hy)).trans c1.2.1
  rw [e1] at hc
  cases hc
  have e3 : up1 (up1 rd q 0) u 1 q = 0 := by rw [up1_n nqu, up1_s]
  rcases hrd with e | e <;> rw [e]
  · exact e3
  · exact up1_s
theorem bal_loop (ok : OK g x RJ28 cJ28_balanceInsertion 6 2 (some (.object "java/util/HashMap$TreeNode"))) (hQ : EndQ g x (BalP w0 S S2 h k v nx pv) noX) (hsub : ∀ a, S2 a → S a) : ∀ (n : Nat) (w : Wd) (P L R : Nat → Option Nat) (rd : Nat → Int32) (lo hi : Nat → Int) (root a : Nat) (l2 l3 l4 l5 : Option Value), TW w S h k v nx P L R pv rd → FrB S w0 w → Tr S2 root (fun a => (h a).toInt) P L R lo hi → S2 a → 4294967299 - (hi a - lo a) ≤ (n : Int) → Z g x 6 5 [some (.ref root), some (.ref a), l2, l3, l4, l5] [] w 0 0 := by
  intro n
  induction n with
  | zero =>
    intro w P L R rd lo hi root a l2 l3 l4 l5 hT hB H sa hn
    have := H.bd a sa
    omega
  | succ n ih =>
    intro w P L R rd lo hi root a l2 l3 l4 l5 hT hB H sa hn
    have ta := hsub a sa
    cases hp : P a with
    | none => exact bal_fin ok hQ hT hB hsub H sa (fun c hc => by rw [hp] at hc; cases hc)
    | some q =>
      by_cases hr : rd q = 0
      · exact bal_fin ok hQ hT hB hsub H sa (fun c hc => by rw [hp] at hc; cases hc; exact hr)
      · obtain ⟨sq, hqa⟩ := H.pa a q sa hp
        have tq := hsub q sq
        have wq := H.wid sa hp
        refine Z.aload_n ok dJ28_balanceInsertion_5 rfl (by first | exact isRf.r _ | exact isRf.n | exact isRf.v _ | assumption) ?_
        refine Z.get (ci := 9) (C := RJ28) (T := TJ28) (N := 11) ok (by first | assumption | exact ws_s | exact hT _ (by assumption) | (rw [ws_n (by assumption)]; assumption)) rfl in_J28 6 (by decide) q1327 (Or.inl rfl) (by rfl) dJ28_balanceInsertion_6 ?_
        rw [hp]
        refine Z.dup ok dJ28_balanceInsertion_9 (by first | rfl | exact cat_rf _) ?_
        refine Z.astore_n (i := 2) ok dJ28_balanceInsertion_10 rfl (by decide) (by first | exact isRf.r _ | exact isRf.n | exact isRf.v _ | assumption) ?_
        refine Z.ifnonnullR (tgt := 21) ok dJ28_balanceInsertion_11 (by decide) ?_
        refine Z.aload_n ok dJ28_balanceInsertion_21 rfl (by first | exact isRf.r _ | exact isRf.n | exact isRf.v _ | assumption) ?_
        refine Z.get (ci := 9) (C := RJ28) (T := TJ28) (N := 11) ok (by first | assumption | exact ws_s | exact hT _ (by assumption) | (rw [ws_n (by assumption)]; assumption)) rfl in_J28 10 (by decide) q1332 (Or.inl rfl) (by rfl) dJ28_balanceInsertion_22 ?_
        refine Z.if_eq (tgt := 37) ok dJ28_balanceInsertion_25 (by decide) (fun hc => absurd hc hr) (fun _ => ?_)
        refine Z.aload_n ok dJ28_balanceInsertion_28 rfl (by first | exact isRf.r _ | exact isRf.n | exact isRf.v _ | assumption) ?_
        refine Z.get (ci := 9) (C := RJ28) (T := TJ28) (N := 11) ok (by first | assumption | exact ws_s | exact hT _ (by assumption) | (rw [ws_n (by assumption)]; assumption)) rfl in_J28 6 (by decide) q1327 (Or.inl rfl) (by rfl) dJ28_balanceInsertion_29 ?_
        refine Z.dup ok dJ28_balanceInsertion_32 (by first | rfl | exact cat_rf _) ?_
        refine Z.astore_n (i := 3) ok dJ28_balanceInsertion_33 rfl (by decide) (by first | exact isRf.r _ | exact isRf.n | exact isRf.v _ | assumption) ?_
        refine Z.ifnonnull (tgt := 39) ok dJ28_balanceInsertion_34 (by decide) (fun u hu => ?_) (fun hu => ?_)
        · obtain ⟨su, huq⟩ := H.pa q u sq hu
          have tu := hsub u su
          have wu := H.wid sq hu
          have recol : ∀ (y : Nat) (hy : S2 y) (w1 : Wd) (l4 l5 : Option Value), TW w1 S h k v nx P L R pv (up1 (up1 (up1 rd y 0) q 0) u 1) → FrB S w0 w1 → Z g x 6 5 [some (.ref root), some (.ref u), some (.ref q), some (.ref u), l4, l5] [] w1 0 0 := fun y hy w1 l4 l5 hT hB => ih w1 P L R _ lo hi root u _ _ _ _ hT hB H su (by omega)
          have rotA : ∀ (l4 l5 : Option Value), L u = some q → Z g x 6 89 [some (.ref root), some (.ref a), some (.ref q), some (.ref u), l4, l5] [] w 0 0 := by
            intro l4 l5 h2
            refine Z.aload_n ok dJ28_balanceInsertion_89 rfl (by first | exact isRf.r _ | exact isRf.n | exact isRf.v _ | assumption) ?_
            refine Z.aload_n ok dJ28_balanceInsertion_90 rfl (by first | exact isRf.r _ | exact isRf.n | exact isRf.v _ | assumption) ?_
            refine Z.get (ci := 9) (C := RJ28) (T := TJ28) (N := 11) ok (by first | assumption | exact ws_s | exact hT _ (by assumption) | (rw [ws_n (by assumption)]; assumption)) rfl in_J28 8 (by decide) q1329 (Or.inl rfl) (by rfl) dJ28_balanceInsertion_91 ?_
            show Z g x 6 94 _ [va_rf (R q), va_rf (some a)] w _ _
            by_cases hk : R q = some a
            · refine Z.acmp_ne (tgt := 123) ok dJ28_balanceInsertion_94 (by decide) (fun hc => absurd hk.symm hc) (fun _ => ?_)
              have c1 := H.rg q a sq hk
              have c2 := H.lf u q su h2
              have o1 := H.ord a sa
              have o2 := H.ord q sq
              have o3 := H.ord u su
              have nqu : q ≠ u := fun e => by rw [e] at c2 o2; (try simp only [] at c2 o2 o3); omega
              have nau : a ≠ u := fun e => by rw [e] at c1 o1; (try simp only [] at c1 c2 o1 o2 o3); omega
              have naq : a ≠ q := fun e => by rw [e] at c1 o1; (try simp only [] at c1 c2 o1 o2 o3); omega
              refine Z.aload_n ok dJ28_balanceInsertion_97 rfl (by first | exact isRf.r _ | exact isRf.n | exact isRf.v _ | assumption) ?_
              refine Z.aload_n ok dJ28_balanceInsertion_98 rfl (by first | exact isRf.r _ | exact isRf.n | exact isRf.v _ | assumption) ?_
              refine Z.dup ok dJ28_balanceInsertion_99 (by first | rfl | exact cat_rf _) ?_
              refine Z.astore_n (i := 1) ok dJ28_balanceInsertion_100 rfl (by decide) (by first | exact isRf.r _ | exact isRf.n | exact isRf.v _ | assumption) ?_
              refine Z.callS ok (rotL_ct hT hsub H sq hk) q1296 q1297 q54 q1298 nk_J28_rotateLeft rfl (by decide) (by first | exact Nat.le_of_ble_eq_true rfl | simp [Value.category, cat_rf]) (Nat.le_refl _) (Nat.le_refl _) dJ28_balanceInsertion_101 rfl ZX.no (fun v w1 hp => ?_)
              obtain ⟨rd1, rfl, hT, -, hB1⟩ := hp
              have H1 := H.rotL sq hk
              have hB := hB.tr hB1
              have hroot : (if P q = none then a else root) = root := by rw [if_neg (by rw [hu]; exact Option.some_ne_none _)]
              rw [hroot] at H1
              rw [hroot]
              have e1 : rotP P (L a) q a q = some a := up1_s
              have e2 : rotP P (L a) q a a = some u := by
                unfold rotP
                rw [up1_n naq, up1_s, hu]
              have e3 : up1 (ppL L (P q) q a) a (some q) a = some q := up1_s
              have e4 : up1 (ppL L (P q) q a) a (some q) u = some a := by
                rw [up1_n (Ne.symm nau), hu]
                simp only [ppL, if_pos h2, up1_s]
              refine Z.astore_n (i := 0) ok dJ28_balanceInsertion_104 rfl (by decide) (by first | exact isRf.r _ | exact isRf.n | exact isRf.v _ | assumption) ?_
              refine Z.aload_n ok dJ28_balanceInsertion_105 rfl (by first | exact isRf.r _ | exact isRf.n | exact isRf.v _ | assumption) ?_
              refine Z.get (ci := 9) (C := RJ28) (T := TJ28) (N := 11) ok (by first | assumption | exact ws_s | exact hT _ (by assumption) | (rw [ws_n (by assumption)]; assumption)) rfl in_J28 6 (by decide) q1327 (Or.inl rfl) (by rfl) dJ28_balanceInsertion_106 ?_
              rw [e1]
              refine Z.dup ok dJ28_balanceInsertion_109 (by first | rfl | exact cat_rf _) ?_
              refine Z.astore_n (i := 2) ok dJ28_balanceInsertion_110 rfl (by decide) (by first | exact isRf.r _ | exact isRf.n | exact isRf.v _ | assumption) ?_
              refine Z.ifnonnullR (tgt := 118) ok dJ28_balanceInsertion_111 (by decide) ?_
              refine Z.aload_n ok dJ28_balanceInsertion_118 rfl (by first | exact isRf.r _ | exact isRf.n | exact isRf.v _ | assumption) ?_
              refine Z.get (ci := 9) (C := RJ28) (T := TJ28) (N := 11) ok (by first | assumption | exact ws_s | exact hT _ (by assumption) | (rw [ws_n (by assumption)]; assumption)) rfl in_J28 6 (by decide) q1327 (Or.inl rfl) (by rfl) dJ28_balanceInsertion_119 ?_
              rw [e2]
              refine Z.astore_n (i := 3) ok dJ28_balanceInsertion_122 rfl (by decide) (by first | exact isRf.r _ | exact isRf.n | exact isRf.v _ | assumption) ?_
              exact bal_R ok hQ hT hB hsub H1 sa su e3 e4
            · refine Z.acmp_ne (tgt := 123) ok dJ28_balanceInsertion_94 (by decide) (fun _ => ?_) (fun hc => absurd hc (fun e => hk e.symm))
              exact bal_R ok hQ hT hB hsub H sq su (hqa.resolve_right hk) h2
          have rotB : ∀ (l4 l5 : Option Value), R u = some q → Z g x 6 184 [some (.ref root), some (.ref a), some (.ref q), some (.ref u), l4, l5] [] w 0 0 := by
            intro l4 l5 h2
            refine Z.aload_n ok dJ28_balanceInsertion_184 rfl (by first | exact isRf.r _ | exact isRf.n | exact isRf.v _ | assumption) ?_
            refine Z.aload_n ok dJ28_balanceInsertion_185 rfl (by first | exact isRf.r _ | exact isRf.n | exact isRf.v _ | assumption) ?_
            refine Z.get (ci := 9) (C := RJ28) (T := TJ28) (N := 11) ok (by first | assumption | exact ws_s | exact hT _ (by assumption) | (rw [ws_n (by assumption)]; assumption)) rfl in_J28 7 (by decide) q1328 (Or.inl rfl) (by rfl) dJ28_balanceInsertion_186 ?_
            show Z g x 6 189 _ [va_rf (L q), va_rf (some a)] w _ _
            by_cases hk : L q = some a
            · refine Z.acmp_ne (tgt := 218) ok dJ28_balanceInsertion_189 (by decide) (fun hc => absurd hk.symm hc) (fun _ => ?_)
              have c1 := H.lf q a sq hk
              have c2 := H.rg u q su h2
              have o1 := H.ord a sa
              have o2 := H.ord q sq
              have o3 := H.ord u su
              have nqu : q ≠ u := fun e => by rw [e] at c2 o2; (try simp only [] at c2 o2 o3); omega
              have nau : a ≠ u := fun e => by rw [e] at c1 o1; (try simp only [] at c1 c2 o1 o2 o3); omega
              have naq : a ≠ q := fun e => by rw [e] at c1 o1; (try simp only [] at c1 c2 o1 o2 o3); omega
              refine Z.aload_n ok dJ28_balanceInsertion_192 rfl (by first | exact isRf.r _ | exact isRf.n | exact isRf.v _ | assumption) ?_
              refine Z.aload_n ok dJ28_balanceInsertion_193 rfl (by first | exact isRf.r _ | exact isRf.n | exact isRf.v _ | assumption) ?_
              refine Z.dup ok dJ28_balanceInsertion_194 (by first | rfl | exact cat_rf _) ?_
              refine Z.astore_n (i := 1) ok dJ28_balanceInsertion_195 rfl (by decide) (by first | exact isRf.r _ | exact isRf.n | exact isRf.v _ | assumption) ?_
              refine Z.callS ok (rotR_ct hT hsub H sq hk) q1299 q1300 q54 q1301 nk_J28_rotateRight rfl (by decide) (by first | exact Nat.le_of_ble_eq_true rfl | simp [Value.category, cat_rf]) (Nat.le_refl _) (Nat.le_refl _) dJ28_balanceInsertion_196 rfl ZX.no (fun v w1 hp => ?_)
              obtain ⟨rd1, rfl, hT, -, hB1⟩ := hp
              have H1 := H.rotR sq hk
              have hB := hB.tr hB1
              have hroot : (if P q = none then a else root) = root := by rw [if_neg (by rw [hu]; exact Option.some_ne_none _)]
              rw [hroot] at H1
              rw [hroot]
              have e1 : rotP P (R a) q a q = some a := up1_s
              have e2 : rotP P (R a) q a a = some u := by
                unfold rotP
                rw [up1_n naq, up1_s, hu]
              have e3 : up1 (ppL R (P q) q a) a (some q) a = some q := up1_s
              have e4 : up1 (ppL R (P q) q a) a (some q) u = some a := by
                rw [up1_n (Ne.symm nau), hu]
                simp only [ppL, if_pos h2, up1_s]
              refine Z.astore_n (i := 0) ok dJ28_balanceInsertion_199 rfl (by decide) (by first | exact isRf.r _ | exact isRf.n | exact isRf.v _ | assumption) ?_
              refine Z.aload_n ok dJ28_balanceInsertion_200 rfl (by first | exact isRf.r _ | exact isRf.n | exact isRf.v _ | assumption) ?_
              refine Z.get (ci := 9) (C := RJ28) (T := TJ28) (N := 11) ok (by first | assumption | exact ws_s | exact hT _ (by assumption) | (rw [ws_n (by assumption)]; assumption)) rfl in_J28 6 (by decide) q1327 (Or.inl rfl) (by rfl) dJ28_balanceInsertion_201 ?_
              rw [e1]
              refine Z.dup ok dJ28_balanceInsertion_204 (by first | rfl | exact cat_rf _) ?_
              refine Z.astore_n (i := 2) ok dJ28_balanceInsertion_205 rfl (by decide) (by first | exact isRf.r _ | exact isRf.n | exact isRf.v _ | assumption) ?_
              refine Z.ifnonnullR (tgt := 213) ok dJ28_balanceInsertion_206 (by decide) ?_
              refine Z.aload_n ok dJ28_balanceInsertion_213 rfl (by first | exact isRf.r _ | exact isRf.n | exact isRf.v _ | assumption) ?_
              refine Z.get (ci := 9) (C := RJ28) (T := TJ28) (N := 11) ok (by first | assumption | exact ws_s | exact hT _ (by assumption) | (rw [ws_n (by assumption)]; assumption)) rfl in_J28 6 (by decide) q1327 (Or.inl rfl) (by rfl) dJ28_balanceInsertion_214 ?_
              rw [e2]
              refine Z.astore_n (i := 3) ok dJ28_balanceInsertion_217 rfl (by decide) (by first | exact isRf.r _ | exact isRf.n | exact isRf.v _ | assumption) ?_
              exact bal_L ok hQ hT hB hsub H1 sa su e3 e4
            · refine Z.acmp_ne (tgt := 218) ok dJ28_balanceInsertion_189 (by decide) (fun _ => ?_) (fun hc => absurd hc (fun e => hk e.symm))
              exact bal_L ok hQ hT hB hsub H sq su (hqa.resolve_left hk) h2
          rw [hu]
          refine Z.aload_n ok dJ28_balanceInsertion_39 rfl (by first | exact isRf.r _ | exact isRf.n | exact isRf.v _ | assumption) ?_
          refine Z.aload_n ok dJ28_balanceInsertion_40 rfl (by first | exact isRf.r _ | exact isRf.n | exact isRf.v _ | assumption) ?_
          refine Z.get (ci := 9) (C := RJ28) (T := TJ28) (N := 11) ok (by first | assumption | exact ws_s | exact hT _ (by assumption) | (rw [ws_n (by assumption)]; assumption)) rfl in_J28 7 (by decide) q1328 (Or.inl rfl) (by rfl) dJ28_balanceInsertion_41 ?_
          refine Z.dup ok dJ28_balanceInsertion_44 (by first | rfl | exact cat_rf _) ?_
          refine Z.astore ok dJ28_balanceInsertion_45 (by decide) (by first | exact isRf.r _ | exact isRf.n | exact isRf.v _ | assumption) ?_
          show Z g x 6 47 _ [va_rf (L u), va_rf (some q)] w _ _
          by_cases hk : L u = some q
          · refine Z.acmp_ne (tgt := 150) ok dJ28_balanceInsertion_47 (by decide) (fun hc => absurd hk.symm hc) (fun _ => ?_)
            refine Z.aload_n ok dJ28_balanceInsertion_50 rfl (by first | exact isRf.r _ | exact isRf.n | exact isRf.v _ | assumption) ?_
            refine Z.get (ci := 9) (C := RJ28) (T := TJ28) (N := 11) ok (by first | assumption | exact ws_s | exact hT _ (by assumption) | (rw [ws_n (by assumption)]; assumption)) rfl in_J28 8 (by decide) q1329 (Or.inl rfl) (by rfl) dJ28_balanceInsertion_51 ?_
            refine Z.dup ok dJ28_balanceInsertion_54 (by first | rfl | exact cat_rf _) ?_
            refine Z.astore ok dJ28_balanceInsertion_55 (by decide) (by first | exact isRf.r _ | exact isRf.n | exact isRf.v _ | assumption) ?_
            refine Z.ifnull (tgt := 89) ok dJ28_balanceInsertion_57 (by decide) (fun hy => ?_) (fun y hy => ?_)
            · exact rotA _ _ hk
            · have sy := (H.rg u y su hy).1
              have ty := hsub y sy
              rw [hy]
              refine Z.aload ok dJ28_balanceInsertion_60 rfl (by first | exact isRf.r _ | exact isRf.n | exact isRf.v _ | assumption) ?_
              refine Z.get (ci := 9) (C := RJ28) (T := TJ28) (N := 11) ok (by first | assumption | exact ws_s | exact hT _ (by assumption) | (rw [ws_n (by assumption)]; assumption)) rfl in_J28 10 (by decide) q1332 (Or.inl rfl) (by rfl) dJ28_balanceInsertion_62 ?_
              by_cases hz : rd y = 0
              · refine Z.if_eq (tgt := 89) ok dJ28_balanceInsertion_65 (by decide) (fun _ => ?_) (fun hc => absurd hz hc)
                exact rotA _ _ hk
              · refine Z.if_eq (tgt := 89) ok dJ28_balanceInsertion_65 (by decide) (fun hc => absurd hc hz) (fun _ => ?_)
                refine Z.aload ok dJ28_balanceInsertion_68 rfl (by first | exact isRf.r _ | exact isRf.n | exact isRf.v _ | assumption) ?_
                refine Z.iconst_0 ok dJ28_balanceInsertion_70 ?_
                refine Z.put (ci := 9) (C := RJ28) (T := TJ28) (N := 11) (ty0 := tyJ28) ok (by first | assumption | exact ws_s | exact hT _ (by assumption) | (rw [ws_n (by assumption)]; assumption)) (by first | decide | assumption) rfl in_J28 tyJ28_ok nmJ28 10 (by decide) q1332 (Or.inl rfl) rfl (by first | exact okV_z0 | exact okV_z1) (by rfl) dJ28_balanceInsertion_71 ?_
                refine Z.tw_rd (0) hT hB (by assumption) (fun w1 hT hB => ?_)
                refine Z.aload_n ok dJ28_balanceInsertion_74 rfl (by first | exact isRf.r _ | exact isRf.n | exact isRf.v _ | assumption) ?_
                refine Z.iconst_0 ok dJ28_balanceInsertion_75 ?_
                refine Z.put (ci := 9) (C := RJ28) (T := TJ28) (N := 11) (ty0 := tyJ28) ok (by first | assumption | exact ws_s | exact hT _ (by assumption) | (rw [ws_n (by assumption)]; assumption)) (by first | decide | assumption) rfl in_J28 tyJ28_ok nmJ28 10 (by decide) q1332 (Or.inl rfl) rfl (by first | exact okV_z0 | exact okV_z1) (by rfl) dJ28_balanceInsertion_76 ?_
                refine Z.tw_rd (0) hT hB (by assumption) (fun w2 hT hB => ?_)
                refine Z.aload_n ok dJ28_balanceInsertion_79 rfl (by first | exact isRf.r _ | exact isRf.n | exact isRf.v _ | assumption) ?_
                refine Z.iconst_1 ok dJ28_balanceInsertion_80 ?_
                refine Z.put (ci := 9) (C := RJ28) (T := TJ28) (N := 11) (ty0 := tyJ28) ok (by first | assumption | exact ws_s | exact hT _ (by assumption) | (rw [ws_n (by assumption)]; assumption)) (by first | decide | assumption) rfl in_J28 tyJ28_ok nmJ28 10 (by decide) q1332 (Or.inl rfl) rfl (by first | exact okV_z0 | exact okV_z1) (by rfl) dJ28_balanceInsertion_81 ?_
                refine Z.tw_rd (1) hT hB (by assumption) (fun w3 hT hB => ?_)
                refine Z.aload_n ok dJ28_balanceInsertion_84 rfl (by first | exact isRf.r _ | exact isRf.n | exact isRf.v _ | assumption) ?_
                refine Z.astore_n (i := 1) ok dJ28_balanceInsertion_85 rfl (by decide) (by first | exact isRf.r _ | exact isRf.n | exact isRf.v _ | assumption) ?_
                refine Z.goto (tgt := 5) ok dJ28_balanceInsertion_86 (by decide) ?_
                exact recol y sy w3 _ _ hT hB
          · refine Z.acmp_ne (tgt := 150) ok dJ28_balanceInsertion_47 (by decide) (fun _ => ?_) (fun hc => absurd hc (fun e => hk e.symm))
            have hc2 := huq.resolve_left hk
            refine Z.aload ok dJ28_balanceInsertion_150 rfl (by first | exact isRf.r _ | exact isRf.n | exact isRf.v _ | assumption) ?_
            refine Z.ifnull (tgt := 184) ok dJ28_balanceInsertion_152 (by decide) (fun hy => ?_) (fun y hy => ?_)
            · exact rotB _ _ hc2
            · have sy := (H.lf u y su hy).1
              have ty := hsub y sy
              rw [hy]
              refine Z.aload ok dJ28_balanceInsertion_155 rfl (by first | exact isRf.r _ | exact isRf.n | exact isRf.v _ | assumption) ?_
              refine Z.get (ci := 9) (C := RJ28) (T := TJ28) (N := 11) ok (by first | assumption | exact ws_s | exact hT _ (by assumption) | (rw [ws_n (by assumption)]; assumption)) rfl in_J28 10 (by decide) q1332 (Or.inl rfl) (by rfl) dJ28_balanceInsertion_157 ?_
              by_cases hz : rd y = 0
              · refine Z.if_eq (tgt := 184) ok dJ28_balanceInsertion_160 (by decide) (fun _ => ?_) (fun hc => absurd hz hc)
                exact rotB _ _ hc2
              · refine Z.if_eq (tgt := 184) ok dJ28_balanceInsertion_160 (by decide) (fun hc => absurd hc hz) (fun _ => ?_)
                refine Z.aload ok dJ28_balanceInsertion_163 rfl (by first | exact isRf.r _ | exact isRf.n | exact isRf.v _ | assumption) ?_
                refine Z.iconst_0 ok dJ28_balanceInsertion_165 ?_
                refine Z.put (ci := 9) (C := RJ28) (T := TJ28) (N := 11) (ty0 := tyJ28) ok (by first | assumption | exact ws_s | exact hT _ (by assumption) | (rw [ws_n (by assumption)]; assumption)) (by first | decide | assumption) rfl in_J28 tyJ28_ok nmJ28 10 (by decide) q1332 (Or.inl rfl) rfl (by first | exact okV_z0 | exact okV_z1) (by rfl) dJ28_balanceInsertion_166 ?_
                refine Z.tw_rd (0) hT hB (by assumption) (fun w1 hT hB => ?_)
                refine Z.aload_n ok dJ28_balanceInsertion_169 rfl (by first | exact isRf.r _ | exact isRf.n | exact isRf.v _ | assumption) ?_
                refine Z.iconst_0 ok dJ28_balanceInsertion_170 ?_
                refine Z.put (ci := 9) (C := RJ28) (T := TJ28) (N := 11) (ty0 := tyJ28) ok (by first | assumption | exact ws_s | exact hT _ (by assumption) | (rw [ws_n (by assumption)]; assumption)) (by first | decide | assumption) rfl in_J28 tyJ28_ok nmJ28 10 (by decide) q1332 (Or.inl rfl) rfl (by first | exact okV_z0 | exact okV_z1) (by rfl) dJ28_balanceInsertion_171 ?_
                refine Z.tw_rd (0) hT hB (by assumption) (fun w2 hT hB => ?_)
                refine Z.aload_n ok dJ28_balanceInsertion_174 rfl (by first | exact isRf.r _ | exact isRf.n | exact isRf.v _ | assumption) ?_
                refine Z.iconst_1 ok dJ28_balanceInsertion_175 ?_
                refine Z.put (ci := 9) (C := RJ28) (T := TJ28) (N := 11) (ty0 := tyJ28) ok (by first | assumption | exact ws_s | exact hT _ (by assumption) | (rw [ws_n (by assumption)]; assumption)) (by first | decide | assumption) rfl in_J28 tyJ28_ok nmJ28 10 (by decide) q1332 (Or.inl rfl) rfl (by first | exact okV_z0 | exact okV_z1) (by rfl) dJ28_balanceInsertion_176 ?_
                refine Z.tw_rd (1) hT hB (by assumption) (fun w3 hT hB => ?_)
                refine Z.aload_n ok dJ28_balanceInsertion_179 rfl (by first | exact isRf.r _ | exact isRf.n | exact isRf.v _ | assumption) ?_
                refine Z.astore_n (i := 1) ok dJ28_balanceInsertion_180 rfl (by decide) (by first | exact isRf.r _ | exact isRf.n | exact isRf.v _ | assumption) ?_
                refine Z.goto (tgt := 5) ok dJ28_balanceInsertion_181 (by decide) ?_
                exact recol y sy w3 _ _ hT hB
        · refine Z.aload_n ok dJ28_balanceInsertion_37 rfl (by first | exact isRf.r _ | exact isRf.n | exact isRf.v _ | assumption) ?_
          refine Z.aret ok hQ (by first | exact Or.inl ⟨_, rfl⟩ | exact Or.inr ⟨_, rfl⟩) (by first | exact isRf.r _ | exact isRf.n | exact isRf.v _ | assumption) dJ28_balanceInsertion_38 ?_
          exact ⟨root, P, L, R, rd, lo, hi, rfl, hT, H, hB⟩
theorem bal_ct (hT : TW w S h k v nx P L R pv rd) (hsub : ∀ a, S2 a → S a) (H : Tr S2 root (fun a => (h a).toInt) P L R lo hi) (sa : S2 a) : Ct g yJ28_balanceInsertion cJ28_balanceInsertion 6 (some (.object "java/util/HashMap$TreeNode")) 2 0 0 [.ref root, .ref a] w (BalP w S S2 h k v nx pv) noX := by
  refine Ct.of RJ28 "balanceInsertion" ⟨rfl, rfl⟩ (by decide +kernel) (by simp [Value.category]) (Nat.le_of_ble_eq_true rfl) (fun x ok hQ hN => ?_)
  show Z g x 6 0 [some (.ref root), some (.ref a), none, none, none, none] [] w 0 0
  have ta := hsub a sa
  have hB : FrB S w w := FrB.rf
  refine Z.aload_n ok dJ28_balanceInsertion_0 rfl (by first | exact isRf.r _ | exact isRf.n | exact isRf.v _ | assumption) ?_
  refine Z.iconst_1 ok dJ28_balanceInsertion_1 ?_
  refine Z.put (ci := 9) (C := RJ28) (T := TJ28) (N := 11) (ty0 := tyJ28) ok (by first | assumption | exact ws_s | exact hT _ (by assumption) | (rw [ws_n (by assumption)]; assumption)) (by first | decide | assumption) rfl in_J28 tyJ28_ok nmJ28 10 (by decide) q1332 (Or.inl rfl) rfl (by first | exact okV_z0 | exact okV_z1) (by rfl) dJ28_balanceInsertion_2 ?_
  refine Z.tw_rd (1) hT hB (by assumption) (fun w1 hT hB => ?_)
  exact bal_loop ok hQ hsub (4294967299 - (hi a - lo a)).toNat w1 P L R _ lo hi root a _ _ _ _ hT hB H sa (by omega)
end BAL
