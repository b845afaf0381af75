/-! PURE WORDS of the tracker: reading a sheet -/
def readX (k z : Nat) (it : Nat → Int32) : Nat → Nat → (Nat → Int32) × (Nat → Int32) → Nat × (Nat → Int32) × (Nat → Int32)
  | 0, n, D => (n, D)
  | f + 1, n, D => if 3 * n + 3 ≤ z then (if adP D.2 k (it (3 * n)) (it (3 * n + 1)) (it (3 * n + 2)) then readX k z it f (n + 1) (adD D.1 D.2 k (it (3 * n)) (it (3 * n + 1)) (it (3 * n + 2)), adM D.2 k (it (3 * n)) (it (3 * n + 1)) (it (3 * n + 2))) else (n, D)) else (n, D)
theorem readX_s (k z : Nat) (it : Nat → Int32) (f n : Nat) (D : (Nat → Int32) × (Nat → Int32)) : readX k z it (f + 1) n D = (if 3 * n + 3 ≤ z then (if adP D.2 k (it (3 * n)) (it (3 * n + 1)) (it (3 * n + 2)) then readX k z it f (n + 1) (adD D.1 D.2 k (it (3 * n)) (it (3 * n + 1)) (it (3 * n + 2)), adM D.2 k (it (3 * n)) (it (3 * n + 1)) (it (3 * n + 2))) else (n, D)) else (n, D)) := rfl
theorem readX_o {k z : Nat} {it : Nat → Int32} {f n : Nat} {D : (Nat → Int32) × (Nat → Int32)} (h : ¬ 3 * n + 3 ≤ z) : readX k z it f n D = (n, D) := by
  cases f with
  | zero => rfl
  | succ f => rw [readX_s, if_neg h]
theorem adR_pos {many : Nat → Int32} {k : Nat} {x y z : Int32} (hM : Mok many) (hk : k < 2) (h : adP many k x y z) : ¬ adR many k x y z ≤ 0 := by
  have h1 := (hM k hk).2
  have h2 := mx_le hk
  unfold adR
  rw [if_pos h.1, if_neg h.2, (hM k hk).1, ← nI_succ]
  exact nI_nle (by omega) (by omega)
theorem adR_neg {many : Nat → Int32} {k : Nat} {x y z : Int32} (h : ¬ adP many k x y z) : adR many k x y z ≤ 0 := by
  unfold adR
  by_cases h1 : dirP x y z
  · rw [if_pos h1, if_pos (Classical.not_not.mp fun q => h ⟨h1, q⟩)]
    decide
  · rw [if_neg h1]
    decide
theorem adM_ok {many : Nat → Int32} {k : Nat} {x y z : Int32} (hM : Mok many) (hk : k < 2) : Mok (adM many k x y z) := by
  unfold adM
  by_cases h : adP many k x y z
  · rw [if_pos h]
    intro j hj
    have hn := (hM k hk).2
    have e := nK_inc hM hk j
    by_cases hjk : j = k
    · subst hjk
      rw [e, if_pos rfl]
      refine ⟨?_, by have := h.2; omega⟩
      rw [upd_eq, nI_succ, ← (hM j hj).1]
    · rw [e, if_neg hjk]
      exact ⟨(upd_nej _ _ hjk).trans (hM j hj).1, (hM j hj).2⟩
  · rw [if_neg h]
    exact hM
def readC (sizes items : Nat → Int32) (s k : Nat) (dir many : Nat → Int32) : Nat × (Nat → Int32) × (Nat → Int32) := readX k (zK sizes s) (fun i => items (60 * s + i)) 21 0 (dir, many)
abbrev rdP (forms : Nat → Int32) (kind s : Int32) : Prop := rng kind 0 1 ∧ rng s 0 3 ∧ 0 ≤ forms s.toNatClampNeg
