/-! PURE WORDS: the places are the model's -/
theorem xor_neg (v u : Int64) : v ^^^ u < 0 ↔ ¬ (v < 0 ↔ u < 0) := by
  have m : ∀ x : Int64, x < 0 ↔ x.toBitVec.msb = true := fun x => by
    rw [Int64.lt_iff_toInt_lt, BitVec.msb_eq_toInt, decide_eq_true_iff]
    exact Iff.rfl
  rw [m, m, m, Int64.toBitVec_xor, BitVec.msb_xor]
  cases v.toBitVec.msb <;> cases u.toBitVec.msb <;> decide
theorem tmod_sign {V U : Int} (hU : 0 < U) : V - V.tdiv U * U < 0 ↔ V < 0 ∧ ¬ V.tdiv U * U = V := by
  have e : V - V.tdiv U * U = V.tmod U := by have := Int.tdiv_mul_add_tmod V U; omega
  rw [e]
  rcases Int.le_total 0 V with h | h
  · have := Int.tmod_nonneg U h
    constructor
    · intro q; omega
    · intro q; omega
  · have h1 := Int.tmod_nonneg U (show 0 ≤ -V by omega)
    rw [Int.neg_tmod] at h1
    have h2 := Int.tdiv_mul_add_tmod V U
    constructor
    · intro q; exact ⟨by
        rcases Int.lt_or_eq_of_le h with g | g
        · exact g
        · rw [g, Int.zero_tmod] at q; omega, by omega⟩
    · intro q; omega
theorem flo_near {x y : Int64} {X Y : Int} {M N : Nat} (hx : L64 x X M) (hy : L64 y Y N) (hY : 0 < Y) (hb : 2 * M + N < 2 ^ 62) (hN : 2 * N < 2 ^ 62) : nearF x y = floX (2 * x + y) (2 * y) := by
  have hv := l64_add (l64_mul l64_two hx (by omega)) hy (by omega)
  have hu := l64_mul l64_two hy (by omega)
  unfold nearF floX
  generalize 2 * x + y = v at *
  generalize 2 * y = u at *
  generalize 2 * X + Y = V at *
  have hU : 0 < 2 * Y := by omega
  generalize 2 * Y = U at *
  have une : ¬ u = 0 := fun q => by
    have := hu.1
    rw [q] at this
    have z : (0 : Int64).toInt = 0 := by decide
    rw [z] at this
    omega
  have hq : (v / u).toInt = V.tdiv U := by rw [Int64.toInt_div_of_ne_right _ _ (fun q => by
    have := hu.1
    have z : (-1 : Int64).toInt = -1 := by decide
    rw [q, z] at this
    omega), hv.1, hu.1]
  have hn : (V.tdiv U * U).natAbs ≤ 2 * M + N := by
    rw [Int.natAbs_mul, Int.natAbs_tdiv]
    exact Nat.le_trans (Nat.div_mul_le_self _ _) hv.2
  have hqu : (v / u * u).toInt = V.tdiv U * U := by
    rw [Int64.toInt_mul, hq, hu.1]
    exact l64_bm hn (by omega)
  have hr : (v - v / u * u).toInt = V - V.tdiv U * U := by
    rw [Int64.toInt_sub, hqu, hv.1]
    have := hv.2
    exact Int.bmod_eq_of_le (by omega) (by omega)
  have z : (0 : Int64).toInt = 0 := by decide
  have c1 : v - v / u * u < 0 ↔ V < 0 ∧ ¬ V.tdiv U * U = V := by rw [Int64.lt_iff_toInt_lt, hr, z]; exact tmod_sign hU
  have c2 : v ^^^ u < 0 ↔ V < 0 := by
    rw [xor_neg, Int64.lt_iff_toInt_lt, Int64.lt_iff_toInt_lt, hv.1, hu.1, z]
    constructor
    · intro q
      rcases Int.lt_or_le V 0 with g | g
      · exact g
      · exact absurd (by constructor <;> intro _ <;> omega) q
    · intro g q
      have := q.mp g
      omega
  have c3 : v / u * u = v ↔ V.tdiv U * U = V := by rw [← Int64.toInt_inj, hqu, hv.1]
  by_cases g : V < 0
  · rw [if_pos (c2.mpr g)]
    by_cases k : V.tdiv U * U = V
    · rw [if_neg (fun q => (c1.mp q).2 k), if_pos (c3.mpr k)]
    · rw [if_pos (c1.mpr ⟨g, k⟩), if_neg (fun q => k (c3.mp q))]
  · rw [if_neg (fun q => g (c1.mp q).1), if_neg (fun q => g (c2.mp q))]
/-- Lagrange -/
theorem lagr (a b c x y z : Int) : (b * z - c * y) * (b * z - c * y) + (c * x - a * z) * (c * x - a * z) + (a * y - b * x) * (a * y - b * x) = (a * a + b * b + c * c) * (x * x + y * y + z * z) - (a * x + b * y + c * z) * (a * x + b * y + c * z) := by
  simp only [Int.mul_sub, Int.sub_mul, Int.mul_add, Int.add_mul]
  simp only [Int.mul_comm, Int.mul_left_comm, Int.mul_assoc]
  omega
