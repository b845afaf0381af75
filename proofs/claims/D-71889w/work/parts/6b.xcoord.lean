/-! PURE WORDS: the places are the model's -/
theorem xor_neg (v u : Int64) : v ^^^ u < 0 ↔ ¬ (v < 0 ↔ u < 0) := by
  have m : ∀ x : Int64, x < 0 ↔ x.toBitVec.msb = true := fun x => by
    rw [Int64.lt_iff_toInt_lt, BitVec.msb_eq_toInt, decide_eq_true_iff]
    exact Iff.rfl
  rw [m, m, m, Int64.toBitVec_xor, BitVec.msb_xor]
  cases v.toBitVec.msb <;> cases u.toBitVec.msb <;> decide
theorem tmod_sign {V U : Int} (hU : 0 < U) : V - V.tdiv U * U < 0 ↔ V < 0 ∧ ¬ V.tdiv U * U = V := by
  have e : V - V.tdiv U * U = V.tmod U := by have := Int.tdiv_mul_add_tmod V U; omega
  rw [e]
  rcases Int.le_total 0 V with h | h
  · have := Int.tmod_nonneg U h
    constructor
    · intro q; omega
    · intro q; omega
  · have h1 := Int.tmod_nonneg U (show 0 ≤ -V by omega)
    rw [Int.neg_tmod] at h1
    have h2 := Int.tdiv_mul_add_tmod V U
    constructor
    · intro q; exact ⟨by
        rcases Int.lt_or_eq_of_le h with g | g
        · exact g
        · rw [g, Int.zero_tmod] at q; omega, by omega⟩
    · intro q; omega
theorem flo_near {x y : Int64} {X Y : Int} {M N : Nat} (hx : L64 x X M) (hy : L64 y Y N) (hY : 0 < Y) (hb : 2 * M + N < 2 ^ 62) (hN : 2 * N < 2 ^ 62) : nearF x y = floX (2 * x + y) (2 * y) := by
  have hv := l64_add (l64_mul l64_two hx (by omega)) hy (by omega)
  have hu := l64_mul l64_two hy (by omega)
  unfold nearF floX
  generalize 2 * x + y = v at *
  generalize 2 * y = u at *
  generalize 2 * X + Y = V at *
  have hU : 0 < 2 * Y := by omega
  generalize 2 * Y = U at *
  have une : ¬ u = 0 := fun q => by
    have := hu.1
    rw [q] at this
    have z : (0 : Int64).toInt = 0 := by decide
    rw [z] at this
    omega
  have hq : (v / u).toInt = V.tdiv U := by rw [Int64.toInt_div_of_ne_right _ _ (fun q => by
    have := hu.1
    have z : (-1 : Int64).toInt = -1 := by decide
    rw [q, z] at this
    omega), hv.1, hu.1]
  have hn : (V.tdiv U * U).natAbs ≤ 2 * M + N := by
    rw [Int.natAbs_mul, Int.natAbs_tdiv]
    exact Nat.le_trans (Nat.div_mul_le_self _ _) hv.2
  have hqu : (v / u * u).toInt = V.tdiv U * U := by
    rw [Int64.toInt_mul, hq, hu.1]
    exact l64_bm hn (by omega)
  have hr : (v - v / u * u).toInt = V - V.tdiv U * U := by
    rw [Int64.toInt_sub, hqu, hv.1]
    have := hv.2
    exact Int.bmod_eq_of_le (by omega) (by omega)
  have z : (0 : Int64).toInt = 0 := by decide
  have c1 : v - v / u * u < 0 ↔ V < 0 ∧ ¬ V.tdiv U * U = V := by rw [Int64.lt_iff_toInt_lt, hr, z]; exact tmod_sign hU
  have c2 : v ^^^ u < 0 ↔ V < 0 := by
    rw [xor_neg, Int64.lt_iff_toInt_lt, Int64.lt_iff_toInt_lt, hv.1, hu.1, z]
    constructor
    · intro q
      rcases Int.lt_or_le V 0 with g | g
      · exact g
      · exact absurd (by constructor <;> intro _ <;> omega) q
    · intro g q
      have := q.mp g
      omega
  have c3 : v / u * u = v ↔ V.tdiv U * U = V := by rw [← Int64.toInt_inj, hqu, hv.1]
  by_cases g : V < 0
  · rw [if_pos (c2.mpr g)]
    by_cases k : V.tdiv U * U = V
    · rw [if_neg (fun q => (c1.mp q).2 k), if_pos (c3.mpr k)]
    · rw [if_pos (c1.mpr ⟨g, k⟩), if_neg (fun q => k (c3.mp q))]
  · rw [if_neg (fun q => g (c1.mp q).1), if_neg (fun q => g (c2.mp q))]
/-- Lagrange -/
theorem lagr (a b c x y z : Int) : (b * z - c * y) * (b * z - c * y) + (c * x - a * z) * (c * x - a * z) + (a * y - b * x) * (a * y - b * x) = (a * a + b * b + c * c) * (x * x + y * y + z * z) - (a * x + b * y + c * z) * (a * x + b * y + c * z) := by
  simp only [Int.mul_sub, Int.sub_mul, Int.mul_add, Int.add_mul]
  simp only [Int.mul_comm, Int.mul_left_comm, Int.mul_assoc]
  omega
theorem selfF_0 (A S : Nat → Int64) : selfF A S 0 = 0 + A 0 * A 0 + A 1 * A 1 + A 2 * A 2 := rfl
theorem selfF_1 (A S : Nat → Int64) : selfF A S 1 = 0 + A 3 * A 3 + A 4 * A 4 + A 5 * A 5 := rfl
/-- the numbers of the arms -/
theorem arm9 {d : Nat → Int32} (hd : DirA d) {P Q : Nat} (hP : P + 2 < 60) (hQ : Q + 2 < 60) (F : Nat → Int64) : ∃ a b c X Y Z : Int, R64 (rowF (armsX F d P Q) 0) a b c 100 ∧ R64 (rowF (armsX F d P Q) 1) X Y Z 20000 ∧ R64 (rowF (armsX F d P Q) 2) (b * Z - c * Y) (c * X - a * Z) (a * Y - b * X) 4000000 ∧ a * X + b * Y + c * Z = 0 ∧ (a = 0 → b = 0 → c = 0 → X = 0 ∧ Y = 0 ∧ Z = 0) := by
  have h : ∀ w, w < 3 → (d (P + w)).toInt.natAbs ≤ 100 := fun w hw => hd _ (by omega)
  have g : ∀ w, w < 3 → (d (Q + w)).toInt.natAbs ≤ 100 := fun w hw => hd _ (by omega)
  have r0 := arms_0 (F := F) (Q := Q) h
  have r1 := arms_1 (F := F) h g
  obtain ⟨e6, e7, e8⟩ := armsX_678 d P Q F
  refine ⟨_, _, _, _, _, _, r0, r1, ⟨?_, ?_, ?_⟩, cr_dot _ _ _ _ _ _, fun q0 q1 q2 => ?_⟩
  · show L64 (armsX F d P Q 6) _ _
    rw [e6]
    exact l64_sub (l64_mul r0.2.1 r1.2.2 (by decide)) (l64_mul r0.2.2 r1.2.1 (by decide)) (by decide)
  · show L64 (armsX F d P Q 7) _ _
    rw [e7]
    exact l64_sub (l64_mul r0.2.2 r1.1 (by decide)) (l64_mul r0.1 r1.2.2 (by decide)) (by decide)
  · show L64 (armsX F d P Q 8) _ _
    rw [e8]
    exact l64_sub (l64_mul r0.1 r1.2.1 (by decide)) (l64_mul r0.2.1 r1.1 (by decide)) (by decide)
  · rw [q0, q1, q2]
    simp
theorem r64_at {f : Nat → Int64} {x y z : Int} {M : Nat} (h : R64 f x y z M) {u : Nat} (hu : u < 3) : ∃ X, L64 (f u) X M := by
  match u, hu with
  | 0, _ => exact ⟨_, h.1⟩
  | 1, _ => exact ⟨_, h.2.1⟩
  | 2, _ => exact ⟨_, h.2.2⟩
  | u + 3, h => exact absurd h (by omega)
theorem dotB_64 {d : Nat → Int32} {b : Nat} {g : Nat → Int64} {x y z : Int} {M : Nat} (h : ∀ w, w < 3 → (d (b + w)).toInt.natAbs ≤ 100) (k : R64 g x y z M) (hb : 100 * M + 100 * M + 100 * M < 2 ^ 63) : ∃ X, L64 (dotB d b g) X (100 * M + 100 * M + 100 * M) := by
  unfold dotB
  exact ⟨_, l64_add (l64_add (l64_mul (l64_dir (h 0 (by decide))) k.1 (by omega)) (l64_mul (l64_dir (h 1 (by decide))) k.2.1 (by omega)) (by omega)) (l64_mul (l64_dir (h 2 (by decide))) k.2.2 (by omega)) hb⟩
theorem coord_eq {d : Nat → Int32} (hd : DirA d) {P P0 Q0 P1 Q1 u : Nat} (hP : P + 2 < 60) (h0 : P0 + 2 < 60) (h1 : Q0 + 2 < 60) (h2 : P1 + 2 < 60) (h3 : Q1 + 2 < 60) (hu : u < 3) (w F0 w1 G0 S : Nat → Int64) (hn : anyX (armsX F0 d P0 Q0)) : coordF d P (armsF d P0 Q0 w) (armsF d P1 Q1 w1) (selfF (armsF d P0 Q0 w) S) u = crdX d P (armsX F0 d P0 Q0) (armsX G0 d P1 Q1) u := by
  have hA := arms_same d P0 Q0 w F0
  have hB := arms_same d P1 Q1 w1 G0
  obtain ⟨a, b, c, X, Y, Z, r0, r1, r2, hz, hn0⟩ := arm9 hd h0 h1 F0
  obtain ⟨a', b', c', X', Y', Z', s0, s1, s2, -, -⟩ := arm9 hd h2 h3 G0
  generalize armsF d P0 Q0 w = A at *
  generalize armsF d P1 Q1 w1 = B at *
  generalize armsX F0 d P0 Q0 = F at *
  generalize armsX G0 d P1 Q1 = G at *
  have q0 : L64 (sq F 0) _ 30000 := r64_dot r0 r0 (by decide)
  have q1 : L64 (sq F 1) _ 1200000000 := r64_dot r1 r1 (by decide)
  have q2 : L64 (sq F 2) _ 48000000000000 := r64_dot r2 r2 (by decide)
  have hden := l64_mul q0 q1 (by decide)
  have ed : selfF A S 2 = sq F 0 * sq F 1 := by
    have e1 : selfF A S 2 = sq F 2 := by
      rw [selfF_2, hA 6 (by decide), hA 7 (by decide), hA 8 (by decide), Int64.zero_add]
      rfl
    rw [e1, ← Int64.toInt_inj, q2.1, hden.1, lagr, hz]
    simp
  have es : sumF d P A B (selfF A S) u = sumX d P F G u := by
    unfold sumF sumX byF
    rw [selfF_1, selfF_0, hA 0 (by decide), hA 1 (by decide), hA 2 (by decide), hA 3 (by decide), hA 4 (by decide), hA 5 (by decide), hA 6 (by decide), hA 7 (by decide), hA 8 (by decide), hB (0 + u) (by omega), hB (3 + u) (by omega), hB (6 + u) (by omega)]
    simp only [Int64.zero_add, Int64.mul_one]
    rfl
  have hPd : ∀ w, w < 3 → (d (P + w)).toInt.natAbs ≤ 100 := fun w hw => hd _ (by omega)
  obtain ⟨D0, t0⟩ := dotB_64 hPd r0 (by decide)
  obtain ⟨D1, t1⟩ := dotB_64 hPd r1 (by decide)
  obtain ⟨D2, t2⟩ := dotB_64 hPd r2 (by decide)
  obtain ⟨g0, k0⟩ := r64_at s0 hu
  obtain ⟨g1, k1⟩ := r64_at s1 hu
  obtain ⟨g2, k2⟩ := r64_at s2 hu
  have hs : L64 (sumX d P F G u) _ _ := l64_add (l64_add (l64_mul (l64_mul t0 k0 (by decide)) q1 (by decide)) (l64_mul (l64_mul t1 k1 (by decide)) q0 (by decide)) (by decide)) (l64_mul t2 k2 (by decide)) (by decide)
  have hpos : 0 < (a * a + b * b + c * c) * (X * X + Y * Y + Z * Z) := by
    have p1 := @sq_pos a
    have p2 := @sq_pos b
    have p3 := @sq_pos c
    have p4 := @sq_pos X
    have p5 := @sq_pos Y
    have p6 := @sq_pos Z
    have hX : ¬ X * X + Y * Y + Z * Z = 0 := fun q => hn ((l64_zero q1).mpr q)
    have ha : ¬ a * a + b * b + c * c = 0 := fun q => by
      obtain ⟨e0, e1, e2⟩ := sq_none q
      obtain ⟨f0, f1, f2⟩ := hn0 e0 e1 e2
      exact hX (by rw [f0, f1, f2]; simp)
    exact Int.mul_pos (by omega) (by omega)
  unfold coordF crdX
  rw [ed, es, flo_near hs hden hpos (by decide) (by decide)]
