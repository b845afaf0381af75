/-! PURE WORDS: longs that don't run over; arms that are none -/
/-- a long by the number that it is, and a bound -/
abbrev L64 (x : Int64) (X : Int) (M : Nat) : Prop := x.toInt = X ∧ X.natAbs ≤ M
theorem l64_bm {X : Int} {M : Nat} (h : X.natAbs ≤ M) (hM : M < 2 ^ 63) : X.bmod (2 ^ 64) = X := Int.bmod_eq_of_le (by omega) (by omega)
theorem l64_add {x y : Int64} {X Y : Int} {M N : Nat} (h : L64 x X M) (g : L64 y Y N) (hb : M + N < 2 ^ 63) : L64 (x + y) (X + Y) (M + N) := by
  have hn : (X + Y).natAbs ≤ M + N := Nat.le_trans (Int.natAbs_add_le X Y) (Nat.add_le_add h.2 g.2)
  refine ⟨?_, hn⟩
  rw [Int64.toInt_add, h.1, g.1]
  exact l64_bm hn hb
theorem l64_sub {x y : Int64} {X Y : Int} {M N : Nat} (h : L64 x X M) (g : L64 y Y N) (hb : M + N < 2 ^ 63) : L64 (x - y) (X - Y) (M + N) := by
  have hn : (X - Y).natAbs ≤ M + N := Nat.le_trans (Int.natAbs_sub_le X Y) (Nat.add_le_add h.2 g.2)
  refine ⟨?_, hn⟩
  rw [Int64.toInt_sub, h.1, g.1]
  exact l64_bm hn hb
theorem l64_mul {x y : Int64} {X Y : Int} {M N : Nat} (h : L64 x X M) (g : L64 y Y N) (hb : M * N < 2 ^ 63) : L64 (x * y) (X * Y) (M * N) := by
  have hn : (X * Y).natAbs ≤ M * N := by rw [Int.natAbs_mul]; exact Nat.mul_le_mul h.2 g.2
  refine ⟨?_, hn⟩
  rw [Int64.toInt_mul, h.1, g.1]
  exact l64_bm hn hb
theorem l64_two : L64 (2 : Int64) 2 2 := ⟨by decide, by decide⟩
theorem l64_zero {x : Int64} {X : Int} {M : Nat} (h : L64 x X M) : x = 0 ↔ X = 0 := by
  rw [← Int64.toInt_inj, h.1]
  exact Iff.rfl
/-- directions are small -/
def DirB (d many : Nat → Int32) : Prop := ∀ k i w : Nat, k < 2 → i < nK many k → w < 3 → (d (36 * k + 3 * i + w)).toInt.natAbs ≤ 100
theorem l64_dir {d : Nat → Int32} {j : Nat} (h : (d j).toInt.natAbs ≤ 100) : L64 (d j).toInt64 (d j).toInt 100 := ⟨Int32.toInt_toInt64 _, h⟩
/-- a row of longs by its numbers -/
abbrev R64 (f : Nat → Int64) (x y z : Int) (M : Nat) : Prop := L64 (f 0) x M ∧ L64 (f 1) y M ∧ L64 (f 2) z M
theorem r64_dot {f g : Nat → Int64} {a b c x y z : Int} {M N : Nat} (h : R64 f a b c M) (k : R64 g x y z N) (hb : M * N + M * N + M * N < 2 ^ 63) : L64 (dotL f g) (a * x + b * y + c * z) (M * N + M * N + M * N) := by
  unfold dotL
  exact l64_add (l64_add (l64_mul h.1 k.1 (by omega)) (l64_mul h.2.1 k.2.1 (by omega)) (by omega)) (l64_mul h.2.2 k.2.2 (by omega)) hb
/-- the arms' rows -/
theorem arms_0 {d : Nat → Int32} {F : Nat → Int64} {P Q : Nat} (h : ∀ w, w < 3 → (d (P + w)).toInt.natAbs ≤ 100) : R64 (rowF (armsX F d P Q) 0) (d (P + 0)).toInt (d (P + 1)).toInt (d (P + 2)).toInt 100 :=
  ⟨l64_dir (h 0 (by decide)), l64_dir (h 1 (by decide)), l64_dir (h 2 (by decide))⟩
theorem arms_1 {d : Nat → Int32} {F : Nat → Int64} {P Q : Nat} (h : ∀ w, w < 3 → (d (P + w)).toInt.natAbs ≤ 100) (g : ∀ w, w < 3 → (d (Q + w)).toInt.natAbs ≤ 100) : R64 (rowF (armsX F d P Q) 1) ((d (P + 1)).toInt * (d (Q + 2)).toInt - (d (P + 2)).toInt * (d (Q + 1)).toInt) ((d (P + 2)).toInt * (d (Q + 0)).toInt - (d (P + 0)).toInt * (d (Q + 2)).toInt) ((d (P + 0)).toInt * (d (Q + 1)).toInt - (d (P + 1)).toInt * (d (Q + 0)).toInt) 20000 :=
  ⟨l64_sub (l64_mul (l64_dir (h 1 (by decide))) (l64_dir (g 2 (by decide))) (by decide)) (l64_mul (l64_dir (h 2 (by decide))) (l64_dir (g 1 (by decide))) (by decide)) (by decide),
   l64_sub (l64_mul (l64_dir (h 2 (by decide))) (l64_dir (g 0 (by decide))) (by decide)) (l64_mul (l64_dir (h 0 (by decide))) (l64_dir (g 2 (by decide))) (by decide)) (by decide),
   l64_sub (l64_mul (l64_dir (h 0 (by decide))) (l64_dir (g 1 (by decide))) (by decide)) (l64_mul (l64_dir (h 1 (by decide))) (l64_dir (g 0 (by decide))) (by decide)) (by decide)⟩
theorem sq_pos {a : Int} : 0 ≤ a * a := by
  rcases Int.le_total 0 a with h | h
  · exact Int.mul_nonneg h h
  · exact Int.mul_nonneg_of_nonpos_of_nonpos h h
theorem ms0 {a : Int} (h : a * a = 0) : a = 0 := (Int.mul_eq_zero.mp h).elim id id
theorem sq_none {a b c : Int} (h : a * a + b * b + c * c = 0) : a = 0 ∧ b = 0 ∧ c = 0 := by
  have h1 := @sq_pos a
  have h2 := @sq_pos b
  have h3 := @sq_pos c
  refine ⟨ms0 (by omega), ms0 (by omega), ms0 (by omega)⟩
theorem armX_of {d many : Nat → Int32} (h : DirB d many) : ArmX d many := by
  intro i j f hi hj hany
  have hP : ∀ w, w < 3 → (d (36 * 0 + 3 * i + w)).toInt.natAbs ≤ 100 := fun w hw => h 0 i w (by decide) hi hw
  have hQ : ∀ w, w < 3 → (d (36 * 0 + 3 * j + w)).toInt.natAbs ≤ 100 := fun w hw => h 0 j w (by decide) hj hw
  have r0 := arms_0 (F := f) (Q := 36 * 0 + 3 * j) hP
  have r1 := arms_1 (F := f) hP hQ
  have s0 : L64 (sq (armsX f d (36 * 0 + 3 * i) (36 * 0 + 3 * j)) 0) _ 30000 := r64_dot r0 r0 (by decide)
  have s1 : L64 (sq (armsX f d (36 * 0 + 3 * i) (36 * 0 + 3 * j)) 1) _ 1200000000 := r64_dot r1 r1 (by decide)
  intro hz
  have h2 := (l64_zero (l64_mul l64_two (l64_mul s0 s1 (by decide)) (by decide))).mp hz
  have h3 : ¬ sq (armsX f d (36 * 0 + 3 * i) (36 * 0 + 3 * j)) 1 = 0 := hany
  have h4 := fun q => h3 ((l64_zero s1).mpr q)
  have h5 := Int.mul_eq_zero.mp ((Int.mul_eq_zero.mp h2).resolve_left (by decide))
  rcases h5 with h5 | h5
  · obtain ⟨e0, e1, e2⟩ := sq_none h5
    exact h4 (by rw [e0, e1, e2]; simp)
  · exact h4 h5
