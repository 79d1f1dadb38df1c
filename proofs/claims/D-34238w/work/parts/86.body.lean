/-! ===== THE LAW's BODY from its entry ===== -/
section BODY
variable {g : Gx}
theorem FS.start {w : Wd} {a lq d mm li : Nat} {f : Nat → Int32} (h1 : w a = some (ob 0 [.ref lq, .ref d, .ref mm, .ref li, .int 0], 10)) (h2 : w d = some (eI g 6 f, 11)) (h3 : ∀ j, f j = if j < 6 then -1 else 0) (h4 : isL g w lq 12 []) (h5 : isHM g w mm []) (h6 : isL g w li 13 []) : FS g w a (mDraft 6) 0 := by
  have e0 : ∀ k j, k ≠ 3 → mDraft 6 k j = 0 := fun k j hk => if_neg (fun z => hk z.1)
  have hn : nq (mDraft 6) = 0 := by unfold nq; rw [e0 2 0 (by decide)]; rfl
  have ef : f = mDraft 6 3 := by
    funext j
    rw [h3 j]
    unfold mDraft
    by_cases c : j < 6
    · rw [if_pos c, if_pos ⟨rfl, c⟩]
    · rw [if_neg c, if_neg (fun z => c z.2)]
  have hv : ∀ i, ¬ vP (mDraft 6) i := fun i z => by
    have := z.1
    rw [hn] at this
    omega
  have ht : ∀ q, nt (mDraft 6) q = 0 := fun q => by unfold nt; rw [e0 10 q (by decide)]; rfl
  refine ⟨lq, d, mm, li, [], fun _ => 0, fun _ => 0, fun _ => 0, [], [], fun _ _ _ => [], ⟨by rw [e0 1 0 (by decide)]; exact h1, by rw [← ef]; exact h2, h4, hn.symm, List.nodup_nil, fun j q hj => (by simp at hj), fun j hj => (by rw [hn] at hj; omega), fun i hi => absurd hi (hv i), fun j j' hj => (by rw [hn] at hj; omega), fun i i' hi => absurd hi (hv i), fun i i' hi => absurd hi (hv i), List.nodup_nil, fun i => ⟨fun z => (by simp at z), fun z => absurd z (hv i)⟩, h6⟩, ⟨h5, List.nodup_nil, fun e he => (by simp at he), fun _ _ _ _ _ => rfl⟩, fun n a b _ i => ?_, fun n a b j hj => (by simp at hj), Nat.zero_le _, fun _ _ _ => Nat.zero_le _⟩
  rw [ht]
  rfl
theorem law_body {x : Cx} {b Ls : Nat} {xs : Nat → Int32} (ok : OK g x "AlertIndexLaw" cL_law 7 13 ret) (hs : SX g x b Ls xs) (hL : Ls ≤ 384) (hEnd : ∀ (L : List (Option Value)) (w : Wd) (kc ks : Nat), Z g x 7 1126 L [.int 1] w kc ks) {R1 R2 : Nat} (h1 : R1 = rC 64) (h2 : R2 = rS 64) : Z g x 7 0 [some (.ref b), none, none, none, none, none, none] [] (fun _ => none) (R1 + 19) (R2 + 1187) := by
  refine Z.room (kc' := (R1 + 18) + 1) (ks' := (R2 + 1182) + 5) (by omega) (by omega) ?_
  refine Z.new (ci := 0) (C := RX1) (T := TX1) (N := 5) (fs := [.null, .null, .null, .null, .int 0]) (ty := tyX1) 10 ok rfl in_X1 tyX1_ok q55 q56 q16 (def_ok (by decide +kernel)) (Nat.le_refl _) (Nat.le_refl _) dL_law_0 (fun a han haA => ?_)
  refine Z.dup ok dL_law_3 (by first | rfl | exact cat_rf _) ?_
  refine Z.callI (kc' := (R1+14)) (ks' := (R2+1162)) ok (init_ctA ws_s) q57 q58 q16 q59 rfl nk_X1_init rfl (by decide) (by first | exact Nat.le_of_ble_eq_true rfl | simp [Value.category, cat_rf]) (by omega) (by omega) dL_law_4 rfl ZX.no (fun v w1 hr => ?_)
  obtain ⟨rfl, lq, d, mm, li, f, k1, k2, k3, k4, k5, k6, -⟩ := hr
  have hF1 := FS.start k1 k2 k3 k4 k5 k6
  refine Z.room (kc' := (R1 + 13) + 1) (ks' := (R2 + 1147) + 15) (by omega) (by omega) ?_
  refine Z.astore_n (i := 1) ok dL_law_7 rfl (by decide) (by first | exact isRf.r _ | exact isRf.n | exact isRf.v _ | assumption) ?_
  refine Z.new (ci := 1) (C := RX2) (T := TX2) (N := 15) (fs := [.int 0, .int 0, .int 0, .null, .null, .null, .null, .null, .null, .null, .null, .null, .null, .null, .null]) (ty := tyX2) 2 ok rfl in_X2 tyX2_ok q1447 q1448 q22 (def_ok (by decide +kernel)) (Nat.le_refl _) (Nat.le_refl _) dL_law_8 (fun m hmn hmA => ?_)
  refine Z.dup ok dL_law_11 (by first | rfl | exact cat_rf _) ?_
  have hF2 : FS g (wset w1 m (ob 1 [.int 0, .int 0, .int 0, .null, .null, .null, .null, .null, .null, .null, .null, .null, .null, .null, .null]) 2) a (mDraft 6) 0 := hF1.out (fun b y t hb _ => (ws_n (fun z => by rw [z, hmn] at hb; cases hb)).trans hb)
  refine Z.callI (kc' := (R1+1)) (ks' := (R2+1)) ok (initM_ct ws_s) q1449 q1450 q22 q1451 rfl nk_X2_init rfl (by decide) (by first | exact Nat.le_of_ble_eq_true rfl | simp [Value.category, cat_rf]) (by omega) (by omega) dL_law_12 rfl ZX.no (fun v w3 hr => ?_)
  obtain ⟨rfl, hFM, ad, hM⟩ := hr
  have hF3 := hF2.frM hFM
  refine Z.astore_n (i := 2) ok dL_law_15 rfl (by decide) (by first | exact isRf.r _ | exact isRf.n | exact isRf.v _ | assumption) ?_
  refine Z.iconst_1 ok dL_law_16 ?_
  refine Z.newJ (N := 1) (kc' := R1) (ks' := R2) 3 ok (q1625) (by decide) (by decide) (by decide) (by omega) (by omega) dL_law_17 (fun ou houn houA => ?_)
  have hF4 : FS g (wset w3 ou (eJ g 1 (fun _ => 0)) 3) a (mDraft 6) 0 := hF3.out (fun b y t hb _ => (ws_n (fun z => by rw [z, houn] at hb; cases hb)).trans hb)
  have hM4 : MR g (wset w3 ou (eJ g 1 (fun _ => 0)) 3) m ad (mDraft 6) 0 := hM.frR (fun b y t hb _ => (ws_n (fun z => by rw [z, houn] at hb; cases hb)).trans hb)
  refine Z.astore_n (i := 3) ok dL_law_19 rfl (by decide) (by first | exact isRf.r _ | exact isRf.n | exact isRf.v _ | assumption) ?_
  refine Z.iconst_0 ok dL_law_20 ?_
  refine Z.istore ok dL_law_21 (by decide) ?_
  rw [h1, h2]
  exact law_loop ok hs hL hEnd 64 0 _ (mDraft 6) 0 none none rfl ⟨hF4, Inv.start, hM4, _, ws_s⟩
end BODY
