/-! PURE WORDS of the tracker: settings, keys read -/
abbrev setP (w v : Int32) : Prop := (w = 0 ∧ rng v 1 9999) ∨ (w = 1 ∧ rng v 0 9999) ∨ (w = 2 ∧ rng v 1 99) ∨ (w = 3 ∧ rng v 0 300)
theorem setP_nat {w v : Int32} (h : setP w v) : ∃ j : Nat, j < 4 ∧ w = nI j := by
  rcases h with ⟨h, -⟩ | ⟨h, -⟩ | ⟨h, -⟩ | ⟨h, -⟩
  · exact ⟨0, by decide, h⟩
  · exact ⟨1, by decide, h⟩
  · exact ⟨2, by decide, h⟩
  · exact ⟨3, by decide, h⟩
theorem keyW_at (f : Nat → Int32) (g : Int32 → Int32) {k : Nat} (h : k < 3) : keyW f (g 0) (g 1) (g 2) k = g (nI k) := by
  match k, h with
  | 0, _ => rfl
  | 1, _ => rfl
  | 2, _ => rfl
  | k + 3, h => exact absurd h (by omega)
theorem keyR_in {many dir se : Nat → Int32} {k x y z w : Nat} (hM : Mok many) (hk : k < 2) (hx : x < nK many k) (hy : y < nK many k) (hz : z < nK many k) (h1 : x ≠ y) (h2 : y ≠ z) (h3 : x ≠ z) (hw : w < 3) : keyR many dir se (nI k) (nI x) (nI y) (nI z) (nI w) = keyF dir (se 0) (36 * k + 3 * x) (36 * k + 3 * y) (36 * k + 3 * z) (nI w) := by
  have hm := (hM k hk).2
  have hmx := mx_le hk
  have ek : (nI k).toNatClampNeg = k := tn_nI (by omega)
  have hr : rng (nI k) 0 1 := rng_nI (n := 1) (by omega)
  have th : ∀ j, j < nK many k → thP many (nI k) (nI j) := fun j hj => ⟨hr, by rw [nI_toInt (by omega)]; omega, by rw [nI_toInt (by omega), ek]; omega⟩
  have ne : ∀ i j, i < nK many k → j < nK many k → i ≠ j → nI i ≠ nI j := fun i j hi hj hij e => hij ((nI_eq (by omega) (by omega)).mp e)
  unfold keyR
  rw [if_pos ⟨th x hx, th y hy, th z hz, ne x y hx hy h1, ne x z hx hz h3, ne y z hy hz h2⟩, if_pos (show rng (nI w) 0 2 from rng_nI (n := 2) (by omega)), ek, tn_nI (by omega : x < 2 ^ 31), tn_nI (by omega : y < 2 ^ 31), tn_nI (by omega : z < 2 ^ 31)]
theorem sw_3 (x : Int32) : (x.toInt < 0 ∨ 2 < x.toInt) ∨ x = 0 ∨ x = 1 ∨ x = 2 := by
  by_cases h : 0 ≤ x.toInt ∧ x.toInt ≤ 2
  · obtain ⟨j, hj, rfl⟩ := rng_ex (n := 2) h
    rcases (show j = 0 ∨ j = 1 ∨ j = 2 by omega) with rfl | rfl | rfl
    · exact Or.inr (Or.inl rfl)
    · exact Or.inr (Or.inr (Or.inl rfl))
    · exact Or.inr (Or.inr (Or.inr rfl))
  · exact Or.inl (by omega)
