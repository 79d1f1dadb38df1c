/-! ===== ALERTINDEX: question ===== -/
section QUESTION
variable {g : Gx} {w w' : Wd} {S S' : St}
/-- what a step on the list lq (tag 12) and a new Question leave of the products -/
theorem isRng.kept {k r : Nat} (h : isRng w S k r) (hw : ∀ b y, w b = some (y, 18) → w' b = some (y, 18)) : isRng w' S k r := hw _ _ h
theorem isTst.kept {k t : Nat} (h : isTst w S k t) (hw : ∀ b y, w b = some (y, 18) → w' b = some (y, 18)) : isTst w' S k t := by
  rcases h with ⟨a, h⟩ | ⟨a, r, h1, h2⟩
  · exact Or.inl ⟨a, h.kept hw⟩
  · exact Or.inr ⟨a, r, hw _ _ h1, h2.kept hw⟩
theorem isPrd.kept {i p : Nat} (h : isPrd g w S i p) (hw : ∀ b y t, w b = some (y, t) → t = 16 ∨ t = 17 ∨ t = 18 ∨ (∃ l fs, t = 1000 + l ∧ w l = some (ob 6 fs, 17)) → w' b = some (y, t)) : isPrd g w' S i p := by
  obtain ⟨l, ts, fd, h1, h2, h3, h4, h5⟩ := h
  obtain ⟨fs, hlo⟩ := h2.obj
  refine ⟨l, ts, fd, hw _ _ _ h1 (Or.inl rfl), h2.kept (fun b y t hb hc => ?_), h3, h4, fun k t hk => (h5 k t hk).kept (fun b y hb => hw b y 18 hb (by omega))⟩
  rcases hc with rfl | rfl
  · rw [hlo] at hb
    cases hb
    exact hw _ _ _ hlo (by omega)
  · exact hw _ _ _ hb (Or.inr (Or.inr (Or.inr ⟨l, fs, rfl, hlo⟩)))
theorem isQst.kept {j q : Nat} {ps : List Nat} (h : isQst g w S j q ps) (hw : ∀ b y t, w b = some (y, t) → t = 14 ∨ t = 15 ∨ t = 16 ∨ t = 17 ∨ t = 18 ∨ (∃ l fs tl, t = 1000 + l ∧ w l = some (ob 6 fs, tl) ∧ (tl = 15 ∨ tl = 17)) → w' b = some (y, t)) : isQst g w' S j q ps := by
  obtain ⟨l, h1, h2, h3, h4, h5⟩ := h
  obtain ⟨fs, hlo⟩ := h2.obj
  refine ⟨l, hw _ _ _ h1 (Or.inl rfl), h2.kept (fun b y t hb hc => ?_), h3, h4, fun k p hk => (h5 k p hk).kept (fun b y t hb hc => hw b y t hb ?_)⟩
  · rcases hc with rfl | rfl
    · rw [hlo] at hb
      cases hb
      exact hw _ _ _ hlo (by omega)
    · exact hw _ _ _ hb (Or.inr (Or.inr (Or.inr (Or.inr (Or.inr ⟨l, fs, 15, rfl, hlo, Or.inl rfl⟩)))))
  · rcases hc with z | z | z | ⟨l2, fs2, z1, z2⟩
    · omega
    · omega
    · omega
    · exact Or.inr (Or.inr (Or.inr (Or.inr (Or.inr ⟨l2, fs2, 17, z1, z2, Or.inr rfl⟩))))
end QUESTION
