/-! PURE WORDS: longs that don't run over; arms that are none -/
/-- a long by the number that it is, and a bound -/
abbrev L64 (x : Int64) (X : Int) (M : Nat) : Prop := x.toInt = X ∧ X.natAbs ≤ M
theorem l64_bm {X : Int} {M : Nat} (h : X.natAbs ≤ M) (hM : M < 2 ^ 63) : X.bmod (2 ^ 64) = X := Int.bmod_eq_of_le (by omega) (by omega)
theorem l64_add {x y : Int64} {X Y : Int} {M N : Nat} (h : L64 x X M) (g : L64 y Y N) (hb : M + N < 2 ^ 63) : L64 (x + y) (X + Y) (M + N) := by
  have hn : (X + Y).natAbs ≤ M + N := Nat.le_trans (Int.natAbs_add_le X Y) (Nat.add_le_add h.2 g.2)
  refine ⟨?_, hn⟩
  rw [Int64.toInt_add, h.1, g.1]
  exact l64_bm hn hb
theorem l64_sub {x y : Int64} {X Y : Int} {M N : Nat} (h : L64 x X M) (g : L64 y Y N) (hb : M + N < 2 ^ 63) : L64 (x - y) (X - Y) (M + N) := by
  have hn : (X - Y).natAbs ≤ M + N := Nat.le_trans (Int.natAbs_sub_le X Y) (Nat.add_le_add h.2 g.2)
  refine ⟨?_, hn⟩
  rw [Int64.toInt_sub, h.1, g.1]
  exact l64_bm hn hb
theorem l64_mul {x y : Int64} {X Y : Int} {M N : Nat} (h : L64 x X M) (g : L64 y Y N) (hb : M * N < 2 ^ 63) : L64 (x * y) (X * Y) (M * N) := by
  have hn : (X * Y).natAbs ≤ M * N := by rw [Int.natAbs_mul]; exact Nat.mul_le_mul h.2 g.2
  refine ⟨?_, hn⟩
  rw [Int64.toInt_mul, h.1, g.1]
  exact l64_bm hn hb
theorem l64_two : L64 (2 : Int64) 2 2 := ⟨by decide, by decide⟩
theorem l64_zero {x : Int64} {X : Int} {M : Nat} (h : L64 x X M) : x = 0 ↔ X = 0 := by
  rw [← Int64.toInt_inj, h.1]
  exact Iff.rfl
/-- directions are small -/
def DirB (d many : Nat → Int32) : Prop := ∀ k i w : Nat, k < 2 → i < nK many k → w < 3 → (d (36 * k + 3 * i + w)).toInt.natAbs ≤ 100
theorem l64_dir {d : Nat → Int32} {j : Nat} (h : (d j).toInt.natAbs ≤ 100) : L64 (d j).toInt64 (d j).toInt 100 := ⟨Int32.toInt_toInt64 _, h⟩
/-- a row of longs by its numbers -/
abbrev R64 (f : Nat → Int64) (x y z : Int) (M : Nat) : Prop := L64 (f 0) x M ∧ L64 (f 1) y M ∧ L64 (f 2) z M
theorem r64_dot {f g : Nat → Int64} {a b c x y z : Int} {M N : Nat} (h : R64 f a b c M) (k : R64 g x y z N) (hb : M * N + M * N + M * N < 2 ^ 63) : L64 (dotL f g) (a * x + b * y + c * z) (M * N + M * N + M * N) := by
  unfold dotL
  exact l64_add (l64_add (l64_mul h.1 k.1 (by omega)) (l64_mul h.2.1 k.2.1 (by omega)) (by omega)) (l64_mul h.2.2 k.2.2 (by omega)) hb
/-- the arms' rows -/
theorem arms_0 {d : Nat → Int32} {F : Nat → Int64} {P Q : Nat} (h : ∀ w, w < 3 → (d (P + w)).toInt.natAbs ≤ 100) : R64 (rowF (armsX F d P Q) 0) (d (P + 0)).toInt (d (P + 1)).toInt (d (P + 2)).toInt 100 :=
  ⟨l64_dir (h 0 (by decide)), l64_dir (h 1 (by decide)), l64_dir (h 2 (by decide))⟩
theorem arms_1 {d : Nat → Int32} {F : Nat → Int64} {P Q : Nat} (h : ∀ w, w < 3 → (d (P + w)).toInt.natAbs ≤ 100) (g : ∀ w, w < 3 → (d (Q + w)).toInt.natAbs ≤ 100) : R64 (rowF (armsX F d P Q) 1) ((d (P + 1)).toInt * (d (Q + 2)).toInt - (d (P + 2)).toInt * (d (Q + 1)).toInt) ((d (P + 2)).toInt * (d (Q + 0)).toInt - (d (P + 0)).toInt * (d (Q + 2)).toInt) ((d (P + 0)).toInt * (d (Q + 1)).toInt - (d (P + 1)).toInt * (d (Q + 0)).toInt) 20000 :=
  ⟨l64_sub (l64_mul (l64_dir (h 1 (by decide))) (l64_dir (g 2 (by decide))) (by decide)) (l64_mul (l64_dir (h 2 (by decide))) (l64_dir (g 1 (by decide))) (by decide)) (by decide),
   l64_sub (l64_mul (l64_dir (h 2 (by decide))) (l64_dir (g 0 (by decide))) (by decide)) (l64_mul (l64_dir (h 0 (by decide))) (l64_dir (g 2 (by decide))) (by decide)) (by decide),
   l64_sub (l64_mul (l64_dir (h 0 (by decide))) (l64_dir (g 1 (by decide))) (by decide)) (l64_mul (l64_dir (h 1 (by decide))) (l64_dir (g 0 (by decide))) (by decide)) (by decide)⟩
theorem sq_pos {a : Int} : 0 ≤ a * a := by
  rcases Int.le_total 0 a with h | h
  · exact Int.mul_nonneg h h
  · exact Int.mul_nonneg_of_nonpos_of_nonpos h h
theorem ms0 {a : Int} (h : a * a = 0) : a = 0 := (Int.mul_eq_zero.mp h).elim id id
theorem sq_none {a b c : Int} (h : a * a + b * b + c * c = 0) : a = 0 ∧ b = 0 ∧ c = 0 := by
  have h1 := @sq_pos a
  have h2 := @sq_pos b
  have h3 := @sq_pos c
  refine ⟨ms0 (by omega), ms0 (by omega), ms0 (by omega)⟩
theorem armX_of {d many : Nat → Int32} (h : DirB d many) : ArmX d many := by
  intro i j f hi hj hany
  have hP : ∀ w, w < 3 → (d (36 * 0 + 3 * i + w)).toInt.natAbs ≤ 100 := fun w hw => h 0 i w (by decide) hi hw
  have hQ : ∀ w, w < 3 → (d (36 * 0 + 3 * j + w)).toInt.natAbs ≤ 100 := fun w hw => h 0 j w (by decide) hj hw
  have r0 := arms_0 (F := f) (Q := 36 * 0 + 3 * j) hP
  have r1 := arms_1 (F := f) hP hQ
  have s0 : L64 (sq (armsX f d (36 * 0 + 3 * i) (36 * 0 + 3 * j)) 0) _ 30000 := r64_dot r0 r0 (by decide)
  have s1 : L64 (sq (armsX f d (36 * 0 + 3 * i) (36 * 0 + 3 * j)) 1) _ 1200000000 := r64_dot r1 r1 (by decide)
  intro hz
  have h2 := (l64_zero (l64_mul l64_two (l64_mul s0 s1 (by decide)) (by decide))).mp hz
  have h3 : ¬ sq (armsX f d (36 * 0 + 3 * i) (36 * 0 + 3 * j)) 1 = 0 := hany
  have h4 := fun q => h3 ((l64_zero s1).mpr q)
  have h5 := Int.mul_eq_zero.mp ((Int.mul_eq_zero.mp h2).resolve_left (by decide))
  rcases h5 with h5 | h5
  · obtain ⟨e0, e1, e2⟩ := sq_none h5
    exact h4 (by rw [e0, e1, e2]; simp)
  · exact h4 h5
theorem cr_dot (a b c u v w : Int) : a * (b * w - c * v) + b * (c * u - a * w) + c * (a * v - b * u) = 0 := by
  simp only [Int.mul_sub]
  have e1 : a * (b * w) = b * (a * w) := Int.mul_left_comm a b w
  have e2 : a * (c * v) = c * (a * v) := Int.mul_left_comm a c v
  have e3 : b * (c * u) = c * (b * u) := Int.mul_left_comm b c u
  omega
theorem cr_one {a b c x y z : Int} (h0 : ¬ (a = 0 ∧ b = 0 ∧ c = 0)) (hd : a * x + b * y + c * z = 0) (h2 : c * x = a * z) (h3 : a * y = b * x) : x = 0 := by
  have e : a * (a * x + b * y + c * z) = 0 := by rw [hd, Int.mul_zero]
  simp only [Int.mul_add] at e
  have e1 : a * (b * y) = b * (b * x) := by rw [Int.mul_left_comm, h3]
  have e2 : a * (c * z) = c * (c * x) := by rw [Int.mul_left_comm, h2]
  have e3 : (a * a + b * b + c * c) * x = 0 := by
    rw [Int.add_mul, Int.add_mul, Int.mul_assoc, Int.mul_assoc, Int.mul_assoc]
    omega
  exact (Int.mul_eq_zero.mp e3).resolve_left (fun q => h0 (sq_none q))
theorem cr_zero {a b c x y z : Int} (h0 : ¬ (a = 0 ∧ b = 0 ∧ c = 0)) (hd : a * x + b * y + c * z = 0) (h1 : b * z = c * y) (h2 : c * x = a * z) (h3 : a * y = b * x) : x = 0 ∧ y = 0 ∧ z = 0 :=
  ⟨cr_one h0 hd h2 h3, cr_one (a := b) (b := c) (c := a) (x := y) (y := z) (z := x) (fun q => h0 ⟨q.2.2, q.1, q.2.1⟩) (by omega) h3 h1, cr_one (a := c) (b := a) (c := b) (x := z) (y := x) (z := y) (fun q => h0 ⟨q.2.1, q.2.2, q.1⟩) (by omega) h1 h2⟩
def DirA (d : Nat → Int32) : Prop := ∀ j, j < 60 → (d j).toInt.natAbs ≤ 100
theorem selfF_2 (A S : Nat → Int64) : selfF A S 2 = 0 + A 6 * A 6 + A 7 * A 7 + A 8 * A 8 := rfl
theorem armsF_0 (d : Nat → Int32) (P Q : Nat) (w : Nat → Int64) : armsF d P Q w 0 = (d (P + 0)).toInt64 := rfl
theorem armsF_1 (d : Nat → Int32) (P Q : Nat) (w : Nat → Int64) : armsF d P Q w 1 = (d (P + 1)).toInt64 := rfl
theorem armsF_2 (d : Nat → Int32) (P Q : Nat) (w : Nat → Int64) : armsF d P Q w 2 = (d (P + 2)).toInt64 := rfl
theorem armsF_3 (d : Nat → Int32) (P Q : Nat) (w : Nat → Int64) : armsF d P Q w 3 = (d (P + 1)).toInt64 * (d (Q + 2)).toInt64 - (d (P + 2)).toInt64 * (d (Q + 1)).toInt64 := rfl
theorem armsF_4 (d : Nat → Int32) (P Q : Nat) (w : Nat → Int64) : armsF d P Q w 4 = (d (P + 2)).toInt64 * (d (Q + 0)).toInt64 - (d (P + 0)).toInt64 * (d (Q + 2)).toInt64 := rfl
theorem armsF_5 (d : Nat → Int32) (P Q : Nat) (w : Nat → Int64) : armsF d P Q w 5 = (d (P + 0)).toInt64 * (d (Q + 1)).toInt64 - (d (P + 1)).toInt64 * (d (Q + 0)).toInt64 := rfl
theorem mult6 (W : Nat → Int64) : multF 0 3 6 W 6 = W 1 * W 5 - W 2 * W 4 := rfl
theorem mult7 (W : Nat → Int64) : multF 0 3 6 W 7 = W 2 * W 3 - W 0 * W 5 := rfl
theorem mult8 (W : Nat → Int64) : multF 0 3 6 W 8 = W 0 * W 4 - W 1 * W 3 := rfl
theorem multL (W : Nat → Int64) : multF 0 3 6 W 0 = W 0 ∧ multF 0 3 6 W 1 = W 1 ∧ multF 0 3 6 W 2 = W 2 ∧ multF 0 3 6 W 3 = W 3 ∧ multF 0 3 6 W 4 = W 4 ∧ multF 0 3 6 W 5 = W 5 := ⟨rfl, rfl, rfl, rfl, rfl, rfl⟩
theorem armsF_678 (d : Nat → Int32) (P Q : Nat) (w : Nat → Int64) : armsF d P Q w 6 = armsF d P Q w 1 * armsF d P Q w 5 - armsF d P Q w 2 * armsF d P Q w 4 ∧ armsF d P Q w 7 = armsF d P Q w 2 * armsF d P Q w 3 - armsF d P Q w 0 * armsF d P Q w 5 ∧ armsF d P Q w 8 = armsF d P Q w 0 * armsF d P Q w 4 - armsF d P Q w 1 * armsF d P Q w 3 := by
  unfold armsF
  generalize multF 0 6 3 _ = W
  obtain ⟨l0, l1, l2, l3, l4, l5⟩ := multL W
  rw [l0, l1, l2, l3, l4, l5]
  exact ⟨mult6 W, mult7 W, mult8 W⟩
theorem armOk_of {d : Nat → Int32} (h : DirA d) : ArmOk d := by
  intro P Q w S hP hQ hn hz
  have a0 : L64 (armsF d P Q w 0) (d (P + 0)).toInt 100 := by rw [armsF_0]; exact l64_dir (h _ (by omega))
  have a1 : L64 (armsF d P Q w 1) (d (P + 1)).toInt 100 := by rw [armsF_1]; exact l64_dir (h _ (by omega))
  have a2 : L64 (armsF d P Q w 2) (d (P + 2)).toInt 100 := by rw [armsF_2]; exact l64_dir (h _ (by omega))
  have q0 : L64 (d (Q + 0)).toInt64 (d (Q + 0)).toInt 100 := l64_dir (h _ (by omega))
  have q1 : L64 (d (Q + 1)).toInt64 (d (Q + 1)).toInt 100 := l64_dir (h _ (by omega))
  have q2 : L64 (d (Q + 2)).toInt64 (d (Q + 2)).toInt 100 := l64_dir (h _ (by omega))
  have b0 : L64 (armsF d P Q w 3) ((d (P + 1)).toInt * (d (Q + 2)).toInt - (d (P + 2)).toInt * (d (Q + 1)).toInt) 20000 := by rw [armsF_3, ← armsF_1 d P Q w, ← armsF_2 d P Q w]; exact l64_sub (l64_mul a1 q2 (by decide)) (l64_mul a2 q1 (by decide)) (by decide)
  have b1 : L64 (armsF d P Q w 4) ((d (P + 2)).toInt * (d (Q + 0)).toInt - (d (P + 0)).toInt * (d (Q + 2)).toInt) 20000 := by rw [armsF_4, ← armsF_2 d P Q w, ← armsF_0 d P Q w]; exact l64_sub (l64_mul a2 q0 (by decide)) (l64_mul a0 q2 (by decide)) (by decide)
  have b2 : L64 (armsF d P Q w 5) ((d (P + 0)).toInt * (d (Q + 1)).toInt - (d (P + 1)).toInt * (d (Q + 0)).toInt) 20000 := by rw [armsF_5, ← armsF_0 d P Q w, ← armsF_1 d P Q w]; exact l64_sub (l64_mul a0 q1 (by decide)) (l64_mul a1 q0 (by decide)) (by decide)
  generalize eX : (d (P + 1)).toInt * (d (Q + 2)).toInt - (d (P + 2)).toInt * (d (Q + 1)).toInt = X at *
  generalize eY : (d (P + 2)).toInt * (d (Q + 0)).toInt - (d (P + 0)).toInt * (d (Q + 2)).toInt = Y at *
  generalize eZ : (d (P + 0)).toInt * (d (Q + 1)).toInt - (d (P + 1)).toInt * (d (Q + 0)).toInt = Z at *
  have c0 : L64 (armsF d P Q w 6) ((d (P + 1)).toInt * Z - (d (P + 2)).toInt * Y) 4000000 := by rw [(armsF_678 d P Q w).1]; exact l64_sub (l64_mul a1 b2 (by decide)) (l64_mul a2 b1 (by decide)) (by decide)
  have c1 : L64 (armsF d P Q w 7) ((d (P + 2)).toInt * X - (d (P + 0)).toInt * Z) 4000000 := by rw [(armsF_678 d P Q w).2.1]; exact l64_sub (l64_mul a2 b0 (by decide)) (l64_mul a0 b2 (by decide)) (by decide)
  have c2 : L64 (armsF d P Q w 8) ((d (P + 0)).toInt * Y - (d (P + 1)).toInt * X) 4000000 := by rw [(armsF_678 d P Q w).2.2]; exact l64_sub (l64_mul a0 b1 (by decide)) (l64_mul a1 b0 (by decide)) (by decide)
  have hd := cr_dot (d (P + 0)).toInt (d (P + 1)).toInt (d (P + 2)).toInt (d (Q + 0)).toInt (d (Q + 1)).toInt (d (Q + 2)).toInt
  rw [eX, eY, eZ] at hd
  have z0 : L64 (0 : Int64) 0 0 := ⟨by decide, by decide⟩
  rw [selfF_2] at hz
  have s2 := l64_add (l64_add (l64_add z0 (l64_mul c0 c0 (by decide)) (by decide)) (l64_mul c1 c1 (by decide)) (by decide)) (l64_mul c2 c2 (by decide)) (by decide)
  have h5 := (Int.mul_eq_zero.mp ((l64_zero (l64_mul l64_two s2 (by decide))).mp hz)).resolve_left (by decide)
  rw [Int.zero_add] at h5
  obtain ⟨e0, e1, e2⟩ := sq_none h5
  have h6 : ¬ (X = 0 ∧ Y = 0 ∧ Z = 0) := fun q => hn ⟨(l64_zero b0).mpr q.1, (l64_zero b1).mpr q.2.1, (l64_zero b2).mpr q.2.2⟩
  by_cases h0 : (d (P + 0)).toInt = 0 ∧ (d (P + 1)).toInt = 0 ∧ (d (P + 2)).toInt = 0
  · refine h6 ⟨?_, ?_, ?_⟩
    · rw [← eX, h0.2.1, h0.2.2]; simp
    · rw [← eY, h0.1, h0.2.2]; simp
    · rw [← eZ, h0.1, h0.2.1]; simp
  · exact h6 (cr_zero h0 hd (by omega) (by omega) (by omega))
theorem dirB_of {d many : Nat → Int32} (h : DirA d) (hM : Mok many) : DirB d many := fun k i w hk hi hw => by
  have := (hM k hk).2
  have e0 : mxK 0 = 12 := rfl
  have e1 : mxK 1 = 8 := rfl
  rcases (show k = 0 ∨ k = 1 by omega) with rfl | rfl
  · exact h _ (by omega)
  · exact h _ (by omega)
