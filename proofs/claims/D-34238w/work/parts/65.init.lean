/-! ===== ALERTINDEX: its constructor ===== -/
section INIT
variable {g : Gx} {w0 : Wd}
theorem ini_loop {x : Cx} {a lq d mm li : Nat} {m0 : Int32} {Post : Option Value → Wd → Prop} (ok : OK g x RX1 cX1_init 2 5 none) (hQ : EndQ g x Post noX) (hp : ∀ w, (∃ f, w d = some (eI g 6 f, 11) ∧ ∀ j, f j = if j < 6 then -1 else 0) → (∀ b, b ≠ d → w b = w0 b) → Post none w) (ha : w0 a = some (ob 0 [.ref lq, .ref d, .ref mm, .ref li, .int m0], 10)) (had : a ≠ d) : ∀ (n j : Nat) (w : Wd), j + n = 6 → (∃ f, w d = some (eI g 6 f, 11) ∧ ∀ i, f i = if i < j then -1 else 0) → (∀ b, b ≠ d → w b = w0 b) → Z g x 2 47 [some (.ref a), some (.int (nI j))] [] w 0 0
  | 0, j, w, hj, hd, hF => by
    obtain rfl : j = 6 := by omega
    refine Z.iload_n ok dX1_init_47 rfl ?_
    refine Z.bipush (v := 6) ok dX1_init_48 (by decide) ?_
    refine Z.icmp_ge (tgt := 66) ok dX1_init_50 (by decide) (fun _ => ?_) (fun hc => absurd (by decide) hc)
    refine Z.vret ok hQ rfl dX1_init_66 ?_
    exact hp w hd hF
  | n + 1, j, w, hj, hd, hF => by
    obtain ⟨f, h1, h2⟩ := hd
    have ha1 := (hF a had).trans ha
    refine Z.iload_n ok dX1_init_47 rfl ?_
    refine Z.bipush (v := 6) ok dX1_init_48 (by decide) ?_
    refine Z.icmp_ge (tgt := 66) ok dX1_init_50 (by decide) (fun hc => absurd hc (show ¬ nI 6 ≤ nI j from nI_ge (by omega) (by decide))) (fun _ => ?_)
    refine Z.aload_n ok dX1_init_53 rfl (by first | exact isRf.r _ | exact isRf.n | exact isRf.v _ | assumption) ?_
    refine Z.get (ci := 0) (C := RX1) (T := TX1) (N := 5) ok (by first | assumption | exact ws_s | exact hT _ (by assumption) | (rw [ws_n (by assumption)]; assumption)) rfl in_X1 1 (by decide) q123 (Or.inl rfl) (by rfl) dX1_init_54 ?_
    refine Z.iload_n ok dX1_init_57 rfl ?_
    refine Z.iconst_m1 ok dX1_init_58 ?_
    refine Z.iast ok h1 (by decide) (vp_in_nI (by omega) (by decide)) dX1_init_59 ?_
    rw [nI_clamp (by omega)]
    refine Z.iinc ok dX1_init_60 rfl rfl ?_
    refine Z.goto (tgt := 47) ok dX1_init_63 (by decide) ?_
    have e3 : nI j + Int32.ofInt 1 = nI (j + 1) := nI_1 j
    have hk := ini_loop ok hQ hp ha had n (j + 1) (wset w d (eI g 6 (upd f j (-1))) 11) (by omega) ⟨_, ws_s, fun i => ?_⟩ (fun b hb => (ws_n hb).trans (hF b hb))
    · rw [← e3] at hk
      exact hk
    · by_cases hij : i = j
      · rw [hij, pk_us, if_pos (Nat.lt_succ_self j)]
      · rw [pk_un hij, h2 i]
        by_cases c : i < j
        · rw [if_pos c, if_pos (by omega)]
        · rw [if_neg c, if_neg (by omega)]
end INIT
