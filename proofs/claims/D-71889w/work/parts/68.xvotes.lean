/-! PURE WORDS: the votes are the model's -/
/-- a number between none and a bound -/
abbrev B32 (x : Int32) (M : Int) : Prop := 0 ≤ x.toInt ∧ x.toInt ≤ M
abbrev A32 (x : Int32) (X : Int) (M : Nat) : Prop := x.toInt = X ∧ X.natAbs ≤ M
theorem a32_bm {X : Int} {M : Nat} (h : X.natAbs ≤ M) (hM : M < 2 ^ 31) : X.bmod (2 ^ 32) = X := Int.bmod_eq_of_le (by omega) (by omega)
theorem a32_add {x y : Int32} {X Y : Int} {M N : Nat} (h : A32 x X M) (g : A32 y Y N) (hb : M + N < 2 ^ 31) : A32 (x + y) (X + Y) (M + N) := by
  have hn : (X + Y).natAbs ≤ M + N := Nat.le_trans (Int.natAbs_add_le X Y) (Nat.add_le_add h.2 g.2)
  refine ⟨?_, hn⟩
  rw [Int32.toInt_add, h.1, g.1]
  exact a32_bm hn hb
theorem a32_sub {x y : Int32} {X Y : Int} {M N : Nat} (h : A32 x X M) (g : A32 y Y N) (hb : M + N < 2 ^ 31) : A32 (x - y) (X - Y) (M + N) := by
  have hn : (X - Y).natAbs ≤ M + N := Nat.le_trans (Int.natAbs_sub_le X Y) (Nat.add_le_add h.2 g.2)
  refine ⟨?_, hn⟩
  rw [Int32.toInt_sub, h.1, g.1]
  exact a32_bm hn hb
theorem a32_mul {x y : Int32} {X Y : Int} {M N : Nat} (h : A32 x X M) (g : A32 y Y N) (hb : M * N < 2 ^ 31) : A32 (x * y) (X * Y) (M * N) := by
  have hn : (X * Y).natAbs ≤ M * N := by rw [Int.natAbs_mul]; exact Nat.mul_le_mul h.2 g.2
  refine ⟨?_, hn⟩
  rw [Int32.toInt_mul, h.1, g.1]
  exact a32_bm hn hb
theorem side_B {d : Nat → Int32} {P Q : Nat} (hP : ∀ w, w < 3 → (d (P + w)).toInt.natAbs ≤ 100) (hQ : ∀ w, w < 3 → (d (Q + w)).toInt.natAbs ≤ 100) : B32 (sideF d P Q) 120000 := by
  have t : ∀ w, w < 3 → A32 (d (P + w) - d (Q + w)) ((d (P + w)).toInt - (d (Q + w)).toInt) 200 := fun w hw => a32_sub ⟨rfl, hP w hw⟩ ⟨rfl, hQ w hw⟩ (by decide)
  have m : ∀ w, w < 3 → A32 ((d (P + w) - d (Q + w)) * (d (P + w) - d (Q + w))) (((d (P + w)).toInt - (d (Q + w)).toInt) * ((d (P + w)).toInt - (d (Q + w)).toInt)) 40000 := fun w hw => a32_mul (t w hw) (t w hw) (by decide)
  have s := a32_add (a32_add (m 0 (by decide)) (m 1 (by decide)) (by decide)) (m 2 (by decide)) (by decide)
  rw [← sd3_at]
  have p0 := @sq_pos ((d (P + 0)).toInt - (d (Q + 0)).toInt)
  have p1 := @sq_pos ((d (P + 1)).toInt - (d (Q + 1)).toInt)
  have p2 := @sq_pos ((d (P + 2)).toInt - (d (Q + 2)).toInt)
  have e : (sd3 (d P) (d (P + 1)) (d (P + 2)) (d Q) (d (Q + 1)) (d (Q + 2))).toInt = _ := s.1
  have q := s.2
  rw [B32, e]
  omega
theorem sub_B {x y : Int32} {M : Int} (hM : M ≤ 1000000) (hx : B32 x M) (hy : B32 y M) : (x - y).toInt = x.toInt - y.toInt := by
  rw [Int32.toInt_sub]
  exact Int.bmod_eq_of_le (by omega) (by omega)
theorem like_iff {x y w : Int32} {M : Int} (hM : M ≤ 1000000) (hx : B32 x M) (hy : B32 y M) : apartF x y ≤ w ↔ fitP w x y := by
  have e1 := sub_B hM hx hy
  have e2 := sub_B hM hy hx
  have z : (0 : Int32).toInt = 0 := by decide
  unfold apartF fitP absX
  by_cases h : x < y
  · rw [if_pos h]
    rw [Int32.lt_iff_toInt_lt] at h
    rw [if_neg (by rw [Int32.le_iff_toInt_le, e1, z]; omega)]
    have e3 : -(x - y) = y - x := by rw [Int32.neg_sub]
    rw [e3]
  · rw [if_neg h]
    rw [Int32.lt_iff_toInt_lt] at h
    rw [if_pos (by rw [Int32.le_iff_toInt_le, e1, z]; omega)]
theorem near_iff {x y : Int32} {M : Int} (hM : M ≤ 1000000) (hx : B32 x M) (hy : B32 y M) : apartF x y ≤ 1 ↔ nrP x y := by
  have e1 := sub_B hM hx hy
  have e2 := sub_B hM hy hx
  have o : (1 : Int32).toInt = 1 := by decide
  have m : (-1 : Int32).toInt = -1 := by decide
  unfold apartF nrP
  rw [Int32.le_iff_toInt_le (x := -1) (y := x - y), Int32.le_iff_toInt_le (x := x - y) (y := 1), e1, o, m]
  by_cases h : x < y
  · rw [if_pos h, Int32.le_iff_toInt_le, e2, o]
    rw [Int32.lt_iff_toInt_lt] at h
    omega
  · rw [if_neg h, Int32.le_iff_toInt_le, e1, o]
    rw [Int32.lt_iff_toInt_lt] at h
    omega
theorem les_B {x y : Int32} {M : Int} (hx : B32 x M) (hy : B32 y M) : B32 (lesF x y) M := by
  unfold lesF; split
  · exact hx
  · exact hy
theorem gre_B {x y : Int32} {M : Int} (hx : B32 x M) (hy : B32 y M) : B32 (greF x y) M := by
  unfold greF; split
  · exact hx
  · exact hy
theorem les_le (x y : Int32) : (lesF x y).toInt ≤ x.toInt ∧ (lesF x y).toInt ≤ y.toInt ∧ ((lesF x y).toInt = x.toInt ∨ (lesF x y).toInt = y.toInt) := by
  unfold lesF
  by_cases h : x < y
  · rw [if_pos h]; rw [Int32.lt_iff_toInt_lt] at h; omega
  · rw [if_neg h]; rw [Int32.lt_iff_toInt_lt] at h; omega
theorem gre_le (x y : Int32) : x.toInt ≤ (greF x y).toInt ∧ y.toInt ≤ (greF x y).toInt ∧ ((greF x y).toInt = x.toInt ∨ (greF x y).toInt = y.toInt) := by
  unfold greF
  by_cases h : y < x
  · rw [if_pos h]; rw [Int32.lt_iff_toInt_lt] at h; omega
  · rw [if_neg h]; rw [Int32.lt_iff_toInt_lt] at h; omega
theorem div_B {x b : Int32} {M : Int} (hx : B32 x M) (hb : 1 ≤ b.toInt) : B32 (x / b) M := by
  have e : (x / b).toInt = x.toInt.tdiv b.toInt := Int32.toInt_div_of_ne_right _ _ (fun q => by rw [q] at hb; exact absurd hb (by decide))
  rw [B32, e, Int.tdiv_eq_ediv_of_nonneg hx.1]
  refine ⟨Int.ediv_nonneg hx.1 (by omega), Int.le_trans (Int.ediv_le_self _ hx.1) hx.2⟩
theorem key_B {d : Nat → Int32} {b : Int32} {P Q R : Nat} (n : Int32) (hb : 1 ≤ b.toInt) (h1 : B32 (sideF d P Q) 120000) (h2 : B32 (sideF d P R) 120000) (h3 : B32 (sideF d Q R) 120000) : B32 (keyF d b P Q R n) 360000 := by
  unfold keyF
  refine div_B ?_ hb
  have l2 := les_le (sideF d P R) (sideF d Q R)
  have l1 := les_le (sideF d P Q) (lesF (sideF d P R) (sideF d Q R))
  have g2 := gre_le (sideF d P R) (sideF d Q R)
  have g1 := gre_le (sideF d P Q) (greF (sideF d P R) (sideF d Q R))
  split
  · have := les_B h1 (les_B h2 h3); rw [B32] at this ⊢; omega
  · split
    · have := gre_B h1 (gre_B h2 h3); rw [B32] at this ⊢; omega
    · have hl := les_B h1 (les_B h2 h3)
      have hg := gre_B h1 (gre_B h2 h3)
      have s1 := a32_add (M := 120000) (N := 120000) ⟨rfl, by have := h1; rw [B32] at this; omega⟩ ⟨rfl, by have := h2; rw [B32] at this; omega⟩ (by decide : (120000 : Nat) + 120000 < 2 ^ 31) (x := sideF d P Q) (y := sideF d P R)
      have s2 := a32_add s1 (N := 120000) (y := sideF d Q R) ⟨rfl, by have := h3; rw [B32] at this; omega⟩ (by decide)
      have s3 := a32_sub s2 (N := 120000) (y := lesF (sideF d P Q) (lesF (sideF d P R) (sideF d Q R))) ⟨rfl, by rw [B32] at hl; omega⟩ (by decide)
      have s4 := a32_sub s3 (N := 120000) (y := greF (sideF d P Q) (greF (sideF d P R) (sideF d Q R))) ⟨rfl, by rw [B32] at hg; omega⟩ (by decide)
      rw [B32, s4.1]
      rw [B32] at h1 h2 h3 hl hg
      omega
theorem fz_cong {α : Type} {f g : Nat → α → α} : ∀ (n : Nat) (s : α), (∀ i s, i < n → f i s = g i s) → fz f n s = fz g n s := by
  intro n
  induction n with
  | zero => intro s _; rw [fz_0, fz_0]
  | succ n ih => intro s h; rw [fz_s, fz_s, ih s (fun i s hi => h i s (by omega)), h n _ (by omega)]
theorem fr_cong {α : Type} {f g : Nat → α → α} (lo : Nat) : ∀ (n : Nat) (s : α), (∀ i s, lo ≤ i → i < lo + n → f i s = g i s) → fr f lo n s = fr g lo n s := by
  intro n
  induction n with
  | zero => intro s _; rw [fr_0, fr_0]
  | succ n ih => intro s h; rw [fr_s, fr_s, ih s (fun i s h1 h2 => h i s h1 (by omega)), h (lo + n) _ (by omega) (by omega)]
theorem dir3 {d : Nat → Int32} (hd : DirA d) {k i : Nat} (h : 36 * k + 3 * i + 2 < 60) : ∀ w, w < 3 → (d (36 * k + 3 * i + w)).toInt.natAbs ≤ 100 := fun w hw => hd _ (by omega)
section VT
variable {d : Nat → Int32} {b tol g : Int32} {n n1 : Nat}
theorem tries_eq (hd : DirA d) {p q r i j k : Nat} (hp : p < 8) (hq : q < 8) (hr : r < 8) (hi : i < 12) (hj : j < 12) (hk : k < 12) (s : VS) : triesX d tol p q r i j k s = triesF d tol p q r i j k s := by
  have L : ∀ {p q i j : Nat}, p < 8 → q < 8 → i < 12 → j < 12 → (likX d tol p q i j ↔ likeP d tol p q i j) := fun hp hq hi hj =>
    (like_iff (M := 120000) (by decide) (side_B (dir3 hd (by omega)) (dir3 hd (by omega))) (side_B (dir3 hd (by omega)) (dir3 hd (by omega)))).symm
  unfold triesX triesF
  by_cases h1 : likeP d tol p q i j
  · rw [if_pos ((L hp hq hi hj).mpr h1), if_pos h1]
    by_cases h2 : likeP d tol q r j k
    · rw [if_pos ((L hq hr hj hk).mpr h2), if_pos h2]
      by_cases h3 : likeP d tol p r i k
      · rw [if_pos ((L hp hr hi hk).mpr h3), if_pos h3]
      · rw [if_neg (fun q => h3 ((L hp hr hi hk).mp q)), if_neg h3]
    · rw [if_neg (fun q => h2 ((L hq hr hj hk).mp q)), if_neg h2]
  · rw [if_neg (fun q => h1 ((L hp hq hi hj).mp q)), if_neg h1]
theorem meets_eq (hd : DirA d) (hb : 1 ≤ b.toInt) {p q r i j k : Nat} (hp : p < 8) (hq : q < 8) (hr : r < 8) (hi : i < 12) (hj : j < 12) (hk : k < 12) (s : VS) : meetsX d b tol p q r i j k s = meetsF d b tol p q r i j k s := by
  have K1 : ∀ m, B32 (keyF d b (36 * 1 + 3 * p) (36 * 1 + 3 * q) (36 * 1 + 3 * r) m) 360000 := fun m => key_B m hb (side_B (dir3 hd (by omega)) (dir3 hd (by omega))) (side_B (dir3 hd (by omega)) (dir3 hd (by omega))) (side_B (dir3 hd (by omega)) (dir3 hd (by omega)))
  have K0 : ∀ m, B32 (keyF d b (36 * 0 + 3 * i) (36 * 0 + 3 * j) (36 * 0 + 3 * k) m) 360000 := fun m => key_B m hb (side_B (dir3 hd (by omega)) (dir3 hd (by omega))) (side_B (dir3 hd (by omega)) (dir3 hd (by omega))) (side_B (dir3 hd (by omega)) (dir3 hd (by omega)))
  have N : ∀ m, nearP d b p q r i j k m ↔ nrP (keyF d b (36 * 1 + 3 * p) (36 * 1 + 3 * q) (36 * 1 + 3 * r) m) (keyF d b (36 * 0 + 3 * i) (36 * 0 + 3 * j) (36 * 0 + 3 * k) m) := fun m => near_iff (by decide) (K1 m) (K0 m)
  have six : ∀ s, sixX d tol p q r i j k s = sixF d tol p q r i j k s := fun s => by
    unfold sixX sixF
    rw [tries_eq hd hp hq hr hi hj hk, tries_eq hd hp hq hr hi hk hj, tries_eq hd hp hq hr hj hi hk, tries_eq hd hp hq hr hj hk hi, tries_eq hd hp hq hr hk hi hj, tries_eq hd hp hq hr hk hj hi]
  unfold meetsX meetsF
  by_cases h0 : nearP d b p q r i j k 0
  · rw [if_pos h0]
    by_cases h1 : nearP d b p q r i j k 1
    · rw [if_pos h1]
      by_cases h2 : nearP d b p q r i j k 2
      · rw [if_pos h2, if_pos ⟨(N 0).mp h0, (N 1).mp h1, (N 2).mp h2⟩, six]
      · rw [if_neg h2, if_neg (fun q => h2 ((N 2).mpr q.2.2))]
    · rw [if_neg h1, if_neg (fun q => h1 ((N 1).mpr q.2.1))]
  · rw [if_neg h0, if_neg (fun q => h0 ((N 0).mpr q.1))]
theorem votes_eq (hd : DirA d) (hb : 1 ≤ b.toInt) (h0 : n ≤ 12) (h8 : n1 ≤ 8) (v : Nat → Int32) : votesX d b tol g n n1 v = votesF d b tol g n n1 v := by
  unfold votesX votesF
  refine fz_cong n1 _ fun p s hp => ?_
  unfold votesX2 votes2
  refine fr_cong _ _ _ fun q s hq1 hq2 => ?_
  unfold votesX3 votes3
  refine fr_cong _ _ _ fun r s hr1 hr2 => ?_
  unfold votesX4 votes4
  have e : looksX d b tol n p q r s = looksF d b tol n p q r s := by
    unfold looksX looksF
    refine fz_cong n _ fun i s hi => ?_
    unfold looksX2 looksF2
    refine fr_cong _ _ _ fun j s hj1 hj2 => ?_
    unfold looksX3 looksF3
    refine fr_cong _ _ _ fun k s hk1 hk2 => ?_
    exact meets_eq hd hb (by omega) (by omega) (by omega) (by omega) (by omega) (by omega) s
  rw [e]
end VT
