/-! ===== THE KEYS: their hashes are distinct, none is zero ===== -/
def hsN (xs : List Nat) : Nat := xs.foldl (fun h c => (31 * h + c) % 4294967296) 0
theorem nI_mod (x : Nat) : nI (x % 4294967296) = nI x := by
  apply Int32.toBitVec_inj.mp
  apply BitVec.eq_of_toNat_eq
  show x % 4294967296 % 2 ^ 32 = x % 2 ^ 32
  omega
theorem hs_eq (xs : List Nat) : hsI xs = nI (hsN xs) := by
  unfold hsI hsN
  have key : ∀ (l : List Nat) (h : Nat), l.foldl (fun h c => 31 * h + nI c) (nI h) = nI (l.foldl (fun h c => (31 * h + c) % 4294967296) h) := by
    intro l
    induction l with
    | nil => intro h; rfl
    | cons c l ih =>
      intro h
      simp only [List.foldl_cons]
      rw [← ih, nI_mod, ← nI_add, ← pk_mul]
      rfl
  exact key xs 0
theorem hsN_lt (xs : List Nat) : hsN xs < 4294967296 := by
  unfold hsN
  have key : ∀ (l : List Nat) (h : Nat), h < 4294967296 → l.foldl (fun h c => (31 * h + c) % 4294967296) h < 4294967296 := by
    intro l
    induction l with
    | nil => intro h hh; exact hh
    | cons c l ih =>
      intro h _
      exact ih _ (Nat.mod_lt _ (by decide))
  exact key xs 0 (by decide)
def hkN (xs : List Nat) : Nat := hsN xs ^^^ (hsN xs / 65536)
theorem nI_xor {a b : Nat} (ha : a < 2 ^ 32) (hb : b < 2 ^ 32) : nI a ^^^ nI b = nI (a ^^^ b) := by
  apply Int32.toBitVec_inj.mp
  apply BitVec.eq_of_toNat_eq
  rw [Int32.toBitVec_xor, BitVec.toNat_xor, pk_tn ha, pk_tn hb, pk_tn (Nat.xor_lt_two_pow ha hb)]
theorem hk_eq (xs : List Nat) : hkey xs = nI (hkN xs) := by
  have h := hsN_lt xs
  unfold hkey hkN
  rw [hs_eq, pk_ushrN h (16 : Int32) 16 (by decide), nI_xor h (by show hsN xs / 2 ^ 16 < 2 ^ 32; omega)]
theorem hkN_lt (xs : List Nat) : hkN xs < 2 ^ 32 := by
  have h := hsN_lt xs
  exact Nat.xor_lt_two_pow h (by show hsN xs / 65536 < 2 ^ 32; omega)
/-- the code of a key: name, first, the power of its length -/
def kc3 (c : Nat) : List Nat := kchars (c / 448) (c / 7 % 64) (2 ^ (c % 7))
def kValid (c : Nat) : Bool := (c / 7 % 64) % 2 ^ (c % 7) == 0
def allDist : List Nat → Bool
  | [] => true
  | a :: r => !(r.contains a) && allDist r
def KL : List Nat := (List.range 2688).filter kValid
theorem kl_dist : allDist (KL.map (fun c => hkN (kc3 c))) = true := by decide +kernel
theorem kl_ne0 : KL.all (fun c => hsN (kc3 c) != 0) = true := by decide +kernel
theorem allDist_nd : ∀ {l : List Nat}, allDist l = true → l.Nodup
  | [], _ => List.nodup_nil
  | a :: r, h => by
    unfold allDist at h
    rw [Bool.and_eq_true] at h
    refine List.nodup_cons.mpr ⟨fun hm => ?_, allDist_nd h.2⟩
    have h1 := h.1
    rw [List.contains_iff_mem.mpr hm] at h1
    cases h1
/-- a key: its name, first place, length -/
def isKey (n a b : Nat) : Prop := n < 6 ∧ a < 64 ∧ ∃ j, j < 7 ∧ b = 2 ^ j ∧ a % b = 0
theorem isKey.code {n a b : Nat} (h : isKey n a b) : ∃ c, c ∈ KL ∧ kc3 c = kchars n a b ∧ c / 448 = n ∧ c / 7 % 64 = a ∧ 2 ^ (c % 7) = b := by
  obtain ⟨h1, h2, j, h3, rfl, h4⟩ := h
  have e1 : ((n * 64 + a) * 7 + j) / 448 = n := by omega
  have e2 : ((n * 64 + a) * 7 + j) / 7 % 64 = a := by omega
  have e3 : ((n * 64 + a) * 7 + j) % 7 = j := by omega
  refine ⟨(n * 64 + a) * 7 + j, List.mem_filter.mpr ⟨List.mem_range.mpr (by omega), ?_⟩, ?_, e1, e2, by rw [e3]⟩
  · unfold kValid
    rw [e2, e3, h4]
    rfl
  · unfold kc3
    rw [e1, e2, e3]
theorem hkey_inj {n a b n' a' b' : Nat} (h : isKey n a b) (h' : isKey n' a' b') (e : hkey (kchars n a b) = hkey (kchars n' a' b')) : n = n' ∧ a = a' ∧ b = b' := by
  obtain ⟨c, c1, c2, c3, c4, c5⟩ := h.code
  obtain ⟨c', d1, d2, d3, d4, d5⟩ := h'.code
  rw [hk_eq, hk_eq] at e
  have e1 : hkN (kchars n a b) = hkN (kchars n' a' b') := by
    have := congrArg (fun z => z.toBitVec.toNat) e
    simp only [pk_tn (hkN_lt _)] at this
    exact this
  rw [← c2, ← d2] at e1
  have := nodup_map_inj (allDist_nd kl_dist) c c' c1 d1 e1
  subst this
  exact ⟨c3.symm.trans d3, c4.symm.trans d4, c5.symm.trans d5⟩
theorem key_okS {n a b : Nat} (h : isKey n a b) : okS (kchars n a b) := by
  obtain ⟨c, c1, c2, -⟩ := h.code
  refine ⟨by simp [kchars]; omega, by have := kchars_len n a b; omega, ?_⟩
  rw [hs_eq, ← c2]
  intro e
  have h1 := List.all_eq_true.mp kl_ne0 c c1
  have h2 : hsN (kc3 c) = 0 := by
    have := congrArg (fun z => z.toBitVec.toNat) e
    simp only [pk_tn (hsN_lt _)] at this
    exact this
  rw [h2] at h1
  cases h1
