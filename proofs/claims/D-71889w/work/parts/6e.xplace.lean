/-! PURE WORDS: places are bounded (Cauchy, Schwarz) -/
theorem cs_le {D S : Int} (hS : 1 ≤ S) (h : D * D ≤ 30000 * S) : D.natAbs ≤ 174 * S.natAbs := by
  have e : (174 * S) * (174 * S) = 30276 * (S * S) := by
    rw [Int.mul_assoc, Int.mul_left_comm S 174 S]
    omega
  have hs : S * 1 ≤ S * S := Int.mul_le_mul_of_nonneg_left hS (by omega)
  have key : ∀ E : Int, 0 ≤ E → E * E = D * D → E ≤ 174 * S := fun E h0 hE => by
    rcases Int.lt_or_le (174 * S) E with g | g
    · have h1 : (174 * S) * (174 * S) ≤ E * E := Int.mul_le_mul (by omega) (by omega) (by omega) h0
      omega
    · exact g
  rcases Int.le_total 0 D with g | g
  · have := key D g rfl
    omega
  · have := key (-D) (by omega) (Int.neg_mul_neg D D)
    omega
theorem dot_cs {x y z a b c : Int} (hx : x.natAbs ≤ 100) (hy : y.natAbs ≤ 100) (hz : z.natAbs ≤ 100) (hS : 1 ≤ a * a + b * b + c * c) : (x * a + y * b + z * c).natAbs ≤ 174 * (a * a + b * b + c * c).natAbs := by
  refine cs_le hS ?_
  have l := lagr x y z a b c
  have p1 := @sq_pos (y * c - z * b)
  have p2 := @sq_pos (z * a - x * c)
  have p3 := @sq_pos (x * b - y * a)
  have sqb : ∀ {w : Int}, w.natAbs ≤ 100 → w * w ≤ 10000 := fun {w} hw => by
    have : (w * w).natAbs ≤ 100 * 100 := by rw [Int.natAbs_mul]; exact Nat.mul_le_mul hw hw
    have := @sq_pos w
    omega
  have b1 := sqb hx
  have b2 := sqb hy
  have b3 := sqb hz
  have h1 : (x * x + y * y + z * z) * (a * a + b * b + c * c) ≤ 30000 * (a * a + b * b + c * c) := Int.mul_le_mul_of_nonneg_right (by omega) (by omega)
  omega
theorem flo_bound {v u : Int64} {V U : Int} {M N B : Nat} (hv : L64 v V M) (hu : L64 u U N) (hU : 0 < U) (hM : M < 2 ^ 62) (hB : V.natAbs ≤ B * U.natAbs) (hB2 : B < 2 ^ 62) : (floX v u).toInt.natAbs ≤ B + 1 := by
  have hq : (v / u).toInt = V.tdiv U := by rw [Int64.toInt_div_of_ne_right _ _ (fun q => by
    have := hu.1
    have z : (-1 : Int64).toInt = -1 := by decide
    rw [q, z] at this
    omega), hv.1, hu.1]
  have hn : (V.tdiv U).natAbs ≤ B := by
    rw [Int.natAbs_tdiv]
    exact Nat.div_le_of_le_mul (by rw [Nat.mul_comm]; exact hB)
  have h1 : (v / u - 1).toInt = V.tdiv U - 1 := by
    have o : (1 : Int64).toInt = 1 := by decide
    rw [Int64.toInt_sub, hq, o]
    exact Int.bmod_eq_of_le (by omega) (by omega)
  unfold floX
  split
  · split
    · rw [hq]; omega
    · rw [h1]; omega
  · rw [hq]; omega
theorem crd_B {d : Nat → Int32} (hd : DirA d) {P P0 Q0 P1 Q1 u : Nat} (hP : P + 2 < 60) (h0 : P0 + 2 < 60) (h1 : Q0 + 2 < 60) (h2 : P1 + 2 < 60) (h3 : Q1 + 2 < 60) (hu : u < 3) (F0 G0 : Nat → Int64) (hn : anyX (armsX F0 d P0 Q0)) : (crdX d P (armsX F0 d P0 Q0) (armsX G0 d P1 Q1) u).toInt.natAbs ≤ 2147483000 := by
  obtain ⟨a, b, c, X, Y, Z, r0, r1, r2, hz, hn0⟩ := arm9 hd h0 h1 F0
  obtain ⟨a', b', c', X', Y', Z', s0, s1, s2, -, -⟩ := arm9 hd h2 h3 G0
  generalize armsX F0 d P0 Q0 = F at *
  generalize armsX G0 d P1 Q1 = G at *
  have q0 : L64 (sq F 0) _ 30000 := r64_dot r0 r0 (by decide)
  have q1 : L64 (sq F 1) _ 1200000000 := r64_dot r1 r1 (by decide)
  have hden := l64_mul q0 q1 (by decide)
  have p1 := @sq_pos a
  have p2 := @sq_pos b
  have p3 := @sq_pos c
  have p4 := @sq_pos X
  have p5 := @sq_pos Y
  have p6 := @sq_pos Z
  have hX : ¬ X * X + Y * Y + Z * Z = 0 := fun q => hn ((l64_zero q1).mpr q)
  have ha : ¬ a * a + b * b + c * c = 0 := fun q => by
    obtain ⟨e0, e1, e2⟩ := sq_none q
    obtain ⟨f0, f1, f2⟩ := hn0 e0 e1 e2
    exact hX (by rw [f0, f1, f2]; simp)
  have lg := lagr a b c X Y Z
  rw [hz, Int.mul_zero, Int.sub_zero] at lg
  have hPd : ∀ w, w < 3 → (d (P + w)).toInt.natAbs ≤ 100 := fun w hw => hd _ (by omega)
  have x0 := hPd 0 (by decide)
  have x1 := hPd 1 (by decide)
  have x2 := hPd 2 (by decide)
  have dd : ∀ {g : Nat → Int64} {x y z : Int} {M : Nat}, R64 g x y z M → 100 * M + 100 * M + 100 * M < 2 ^ 63 → L64 (dotB d P g) ((d (P + 0)).toInt * x + (d (P + 1)).toInt * y + (d (P + 2)).toInt * z) (100 * M + 100 * M + 100 * M) := fun k hb => by
    unfold dotB
    exact l64_add (l64_add (l64_mul (l64_dir x0) k.1 (by omega)) (l64_mul (l64_dir x1) k.2.1 (by omega)) (by omega)) (l64_mul (l64_dir x2) k.2.2 (by omega)) hb
  have t0 := dd r0 (by decide)
  have t1 := dd r1 (by decide)
  have t2 := dd r2 (by decide)
  have c0 := dot_cs x0 x1 x2 (a := a) (b := b) (c := c) (by omega)
  have c1 := dot_cs x0 x1 x2 (a := X) (b := Y) (c := Z) (by omega)
  have hD : 0 < (a * a + b * b + c * c) * (X * X + Y * Y + Z * Z) := Int.mul_pos (by omega) (by omega)
  have c2 := dot_cs x0 x1 x2 (a := b * Z - c * Y) (b := c * X - a * Z) (c := a * Y - b * X) (by rw [lg]; omega)
  rw [lg, Int.natAbs_mul] at c2
  obtain ⟨g0, k0⟩ := r64_at s0 hu
  obtain ⟨g1, k1⟩ := r64_at s1 hu
  obtain ⟨g2, k2⟩ := r64_at s2 hu
  have hs : L64 (sumX d P F G u) _ _ := l64_add (l64_add (l64_mul (l64_mul t0 k0 (by decide)) q1 (by decide)) (l64_mul (l64_mul t1 k1 (by decide)) q0 (by decide)) (by decide)) (l64_mul t2 k2 (by decide)) (by decide)
  generalize (d (P + 0)).toInt * a + (d (P + 1)).toInt * b + (d (P + 2)).toInt * c = D0 at *
  generalize (d (P + 0)).toInt * X + (d (P + 1)).toInt * Y + (d (P + 2)).toInt * Z = D1 at *
  generalize (d (P + 0)).toInt * (b * Z - c * Y) + (d (P + 1)).toInt * (c * X - a * Z) + (d (P + 2)).toInt * (a * Y - b * X) = D2 at *
  generalize a * a + b * b + c * c = S0 at *
  generalize X * X + Y * Y + Z * Z = S1 at *
  have b0 : (D0 * g0 * S1).natAbs ≤ 17400 * (S0.natAbs * S1.natAbs) := by
    rw [Int.natAbs_mul, Int.natAbs_mul]
    have := Nat.mul_le_mul (Nat.mul_le_mul c0 k0.2) (Nat.le_refl S1.natAbs)
    rw [show 174 * S0.natAbs * 100 * S1.natAbs = 17400 * (S0.natAbs * S1.natAbs) by rw [Nat.mul_right_comm 174, Nat.mul_assoc]] at this
    exact this
  have b1 : (D1 * g1 * S0).natAbs ≤ 3480000 * (S0.natAbs * S1.natAbs) := by
    rw [Int.natAbs_mul, Int.natAbs_mul]
    have := Nat.mul_le_mul (Nat.mul_le_mul c1 k1.2) (Nat.le_refl S0.natAbs)
    rw [show 174 * S1.natAbs * 20000 * S0.natAbs = 3480000 * (S0.natAbs * S1.natAbs) by rw [Nat.mul_right_comm 174, Nat.mul_assoc, Nat.mul_comm S1.natAbs]] at this
    exact this
  have b2 : (D2 * g2).natAbs ≤ 696000000 * (S0.natAbs * S1.natAbs) := by
    rw [Int.natAbs_mul]
    have := Nat.mul_le_mul c2 k2.2
    rw [show 174 * (S0.natAbs * S1.natAbs) * 4000000 = 696000000 * (S0.natAbs * S1.natAbs) by rw [Nat.mul_right_comm 174]] at this
    exact this
  have hv := l64_add (l64_mul l64_two hs (by decide)) hden (by decide)
  have hu2 := l64_mul l64_two hden (by decide)
  have eD : (S0 * S1).natAbs = S0.natAbs * S1.natAbs := Int.natAbs_mul S0 S1
  have fb := flo_bound (B := 699497401) hv hu2 (by omega) (by decide) (by
    have e2 : ((2 : Int) * (S0 * S1)).natAbs = 2 * (S0.natAbs * S1.natAbs) := by rw [Int.natAbs_mul, eD]; rfl
    rw [e2]
    generalize D0 * g0 * S1 = T0 at *
    generalize D1 * g1 * S0 = T1 at *
    generalize D2 * g2 = T2 at *
    generalize S0 * S1 = DD at *
    generalize S0.natAbs * S1.natAbs = nn at *
    omega) (by decide)
  unfold crdX
  rw [Int64.toInt_toInt32, Int.bmod_eq_of_le (by omega) (by omega)]
  omega
