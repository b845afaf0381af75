/-! shifts of longs (rows wb_ of kit/laws/BITS.to-paste: a starting text); the quotient as a float's bits -/
theorem wb_tb (n : Nat) : (lN n).toBitVec = BitVec.ofNat 64 n := rfl
theorem wb_inj {a b : Int64} (h : a.toBitVec = b.toBitVec) : a = b := Int64.toBitVec_inj.mp h
theorem wb_tn {n : Nat} (h : n < 2 ^ 64) : (lN n).toBitVec.toNat = n := by rw [wb_tb, BitVec.toNat_ofNat, Nat.mod_eq_of_lt h]
theorem wb_of (x : Int64) : ∃ n, n < 2 ^ 64 ∧ x = lN n := ⟨x.toBitVec.toNat, x.toBitVec.isLt, wb_inj (by rw [wb_tb]; simp)⟩
theorem wb_of32 (x : Int32) : ∃ n, n < 2 ^ 32 ∧ x = nI n := ⟨x.toBitVec.toNat, x.toBitVec.isLt, Int32.toBitVec_inj.mp (by show _ = BitVec.ofNat 32 _; simp)⟩
theorem wb_c : ∀ k, k < 64 → ((nI k).toInt64 &&& 63) = lN k := by decide +kernel
theorem wb_cu : ∀ k, k < 64 → ((nI k).toInt64.toUInt64 &&& Int64.toUInt64 63) = UInt64.ofNat k := by decide +kernel
theorem wb_sm : ∀ k, k < 64 → (BitVec.ofNat 64 k).smod 64 = BitVec.ofNat 64 k := by decide +kernel
theorem wb_pw {a b : Nat} (h : a ≤ b) : 2 ^ b = 2 ^ a * 2 ^ (b - a) := by rw [← Nat.pow_add]; congr 1; omega
theorem wb_lt2 {a b : Nat} (h : a < b) : 2 ^ a < 2 ^ b := Nat.pow_lt_pow_right (by decide) h
theorem wb_mod (n : Nat) : lN n = lN (n % 2 ^ 64) := wb_inj (by rw [wb_tb, wb_tb]; apply BitVec.eq_of_toNat_eq; rw [BitVec.toNat_ofNat, BitVec.toNat_ofNat, Nat.mod_mod])
theorem wb_shr {n k : Nat} (hn : n < 2 ^ 64) (hk : k < 64) : ((lN n).toUInt64 >>> ((nI k).toInt64.toUInt64 &&& Int64.toUInt64 63)).toInt64 = lN (n / 2 ^ k) := by
  rw [wb_cu k hk]
  apply wb_inj
  apply BitVec.eq_of_toNat_eq
  show ((lN n).toUInt64 >>> UInt64.ofNat k).toNat = (BitVec.ofNat 64 _).toNat
  have h1 : (UInt64.ofNat k).toNat = k := by
    show (BitVec.ofNat 64 k).toNat = k
    rw [BitVec.toNat_ofNat, Nat.mod_eq_of_lt (by omega)]
  have h2 : (lN n).toUInt64.toNat = n := wb_tn hn
  rw [UInt64.toNat_shiftRight, h1, h2, Nat.mod_eq_of_lt hk, Nat.shiftRight_eq_div_pow, BitVec.toNat_ofNat, Nat.mod_eq_of_lt (Nat.lt_of_le_of_lt (Nat.div_le_self _ _) hn)]
theorem wb_shl (n : Nat) {k : Nat} (hk : k < 64) : lN n <<< ((nI k).toInt64 &&& 63) = lN (n * 2 ^ k) := by
  rw [wb_c k hk]
  apply wb_inj
  rw [Int64.toBitVec_shiftLeft, wb_tb, wb_tb, wb_tb, wb_sm k hk]
  apply BitVec.eq_of_toNat_eq
  rw [BitVec.shiftLeft_eq', BitVec.toNat_shiftLeft, BitVec.toNat_ofNat, BitVec.toNat_ofNat, BitVec.toNat_ofNat, Nat.mod_eq_of_lt (show k < 2 ^ 64 by omega), Nat.shiftLeft_eq, Nat.mul_mod, Nat.mod_mod, ← Nat.mul_mod]
def upQ (d : Nat) : Nat → Nat → Int32 → Nat × Int32
  | 0, A, p => (A, p)
  | f + 1, A, p => if A / d < 8388608 then upQ d f (A * 2) (p + 1) else (A, p)
theorem upQ_s (d f A : Nat) (p : Int32) : upQ d (f + 1) A p = if A / d < 8388608 then upQ d f (A * 2) (p + 1) else (A, p) := rfl
def dnQ (A : Nat) : Nat → Nat → Int32 → Nat × Int32
  | 0, D, p => (D, p)
  | f + 1, D, p => if A / D < 16777216 then (D, p) else dnQ A f (D * 2) (p + (-1))
theorem dnQ_s (A f D : Nat) (p : Int32) : dnQ A (f + 1) D p = if A / D < 16777216 then (D, p) else dnQ A f (D * 2) (p + (-1)) := rfl
def rndQ (A D : Nat) : Nat := if D < 2 * (A % D) then A / D + 1 else if 2 * (A % D) = D then (if A / D % 2 = 1 then A / D + 1 else A / D + 0) else A / D + 0
def bitsQ (n d : Nat) : Int32 := ((((23 : Int32) - (dnQ (upQ d 16 (n * 8388608) 23).1 16 d (upQ d 16 (n * 8388608) 23).2).2 + 127) <<< ((23 : Int32) &&& 31)).toInt64 + lN (rndQ (upQ d 16 (n * 8388608) 23).1 (dnQ (upQ d 16 (n * 8388608) 23).1 16 d (upQ d 16 (n * 8388608) 23).2).1) - 8388608).toInt32
def quotF (x : Int32) (d : Nat) : Int32 := if x = 0 then 0 else if 0 ≤ x then bitsQ x.toNatClampNeg d else bitsQ (-x).toNatClampNeg d ||| (-2147483648)
theorem upQ_lt (d : Nat) : ∀ (f A : Nat) (p : Int32), A < 1099511627776 → d ≤ 30000 → 0 < d → (upQ d f A p).1 < 1099511627776 ∧ A ≤ (upQ d f A p).1 := by
  intro f
  induction f with
  | zero => exact fun A p h _ _ => ⟨h, Nat.le_refl _⟩
  | succ f ih =>
    intro A p h hd h0
    rw [upQ_s]
    by_cases c : A / d < 8388608
    · rw [if_pos c]
      have h1 : A < 8388608 * d := (Nat.div_lt_iff_lt_mul h0).mp c
      have h2 := ih (A * 2) (p + 1) (by omega) hd h0
      exact ⟨h2.1, by omega⟩
    · rw [if_neg c]; exact ⟨h, Nat.le_refl _⟩
theorem dnQ_lt (A : Nat) : ∀ (f D : Nat) (p : Int32) (M : Nat), D * 2 ^ f ≤ M → (dnQ A f D p).1 ≤ M ∧ D ≤ (dnQ A f D p).1 := by
  intro f
  induction f with
  | zero => exact fun D p M h => ⟨by rw [Nat.pow_zero, Nat.mul_one] at h; exact h, Nat.le_refl _⟩
  | succ f ih =>
    intro D p M h
    rw [dnQ_s]
    have h1 : D * 2 * 2 ^ f ≤ M := by rw [Nat.mul_assoc, Nat.mul_comm 2, ← Nat.pow_succ]; exact h
    by_cases c : A / D < 16777216
    · rw [if_pos c]
      have h2 : 1 ≤ 2 ^ f := Nat.one_le_two_pow
      have h3 : D * 2 * 1 ≤ D * 2 * 2 ^ f := Nat.mul_le_mul_left _ h2
      exact ⟨by show D ≤ M; omega, Nat.le_refl _⟩
    · rw [if_neg c]
      have h2 := ih (D * 2) (p + (-1)) M h1
      exact ⟨h2.1, by omega⟩
theorem shl1 (n : Nat) : lN n <<< ((1 : Int32).toInt64 &&& 63) = lN (n * 2) := wb_shl n (k := 1) (by decide)
theorem shl23 (n : Nat) : lN n <<< ((23 : Int32).toInt64 &&& 63) = lN (n * 8388608) := wb_shl n (k := 23) (by decide)
theorem cmpQ {A d m : Nat} (hA : A < 1099511627776) (h0 : 0 < d) (hd : d < 1099511627776) (hm : m < 1099511627776) : (0 ≤ lg_cmp (lN A / lN d) (lN m) ↔ m ≤ A / d) ∧ (lg_cmp (lN A / lN d) (lN m) < 0 ↔ A / d < m) := by
  rw [pk_lDiv (by omega) h0 (by omega)]
  have h : A / d < 2 ^ 63 := Nat.lt_of_le_of_lt (Nat.div_le_self _ _) (by omega)
  exact ⟨(lg_cmp_ge _ _).trans (pk_lLE (by omega) h), (lg_cmp_lt _ _).trans (pk_lLT h (by omega))⟩
theorem lN_ne0 {d : Nat} (h0 : 0 < d) (hd : d < 1099511627776) : ¬ lN d = 0 := fun e => by
  have := (pk_lEQ (a := d) (b := 0) (by omega) (by omega)).mp e
  omega
theorem pos_ex {x : Int32} (h : 0 ≤ x) (h2 : x.toInt ≤ 30000) : ∃ n : Nat, n ≤ 30000 ∧ x = nI n := by
  have h1 : 0 ≤ x.toInt := by have := Int32.le_iff_toInt_le.mp h; exact this
  obtain ⟨e1, e2⟩ := nat_of h1
  exact ⟨x.toNatClampNeg, by omega, e1⟩
theorem neg_T {x : Int32} (h : -30000 ≤ x.toInt) (h0 : x.toInt ≤ 0) : (-x).toInt = -x.toInt := by
  rw [Int32.toInt_neg]
  exact Int.bmod_eq_of_le (by omega) (by omega)
theorem neg_ex {x : Int32} (h : x < 0) (h1 : -30000 ≤ x.toInt) : ∃ n : Nat, n ≤ 30000 ∧ -x = nI n := by
  have h2 : x.toInt < 0 := by have := Int32.lt_iff_toInt_lt.mp h; exact this
  have e := neg_T h1 (by omega)
  obtain ⟨e1, e2⟩ := nat_of (x := -x) (by omega)
  exact ⟨(-x).toNatClampNeg, by omega, e1⟩
theorem neg_0 {x : Int32} (h : -x = 0) : x = 0 := by
  have := congrArg (fun y => -y) h
  simpa using this
/-- what shares ask of the things in trays -/
def ThgOk (tm tray : Nat → Int32) : Prop := ∀ q x y : Nat, q < 4 → x < zK tm q → y < zK tm q → (-30000 ≤ (prodF tray (32 * q + 4 * x) (32 * q + 4 * y)).toInt ∧ (prodF tray (32 * q + 4 * x) (32 * q + 4 * y)).toInt ≤ 30000) ∧ (∃ d : Nat, 0 < d ∧ d ≤ 30000 ∧ prodF tray (32 * q + 4 * x) (32 * q + 4 * x) = nI d)
def shareR (tm tray : Nat → Int32) (t i j : Int32) : Int32 :=
  if thgP tm t i then (if thgP tm t j then quotF (prodF tray (32 * t.toNatClampNeg + 4 * i.toNatClampNeg) (32 * t.toNatClampNeg + 4 * j.toNatClampNeg)) (prodF tray (32 * t.toNatClampNeg + 4 * i.toNatClampNeg) (32 * t.toNatClampNeg + 4 * i.toNatClampNeg)).toNatClampNeg else -2147483648) else -2147483648
