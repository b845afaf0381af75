/-! PURE WORDS: the turn is the model's -/
theorem fz_inv {α : Type} {P : α → Prop} {f : Nat → α → α} : ∀ (n : Nat) {s : α}, P s → (∀ i s, i < n → P s → P (f i s)) → P (fz f n s) := by
  intro n
  induction n with
  | zero => exact fun h _ => h
  | succ n ih => exact fun h hs => hs n _ (by omega) (ih h (fun i s hi => hs i s (by omega)))
theorem fr_inv {α : Type} {P : α → Prop} {f : Nat → α → α} (lo : Nat) : ∀ (n : Nat) {s : α}, P s → (∀ i s, lo ≤ i → i < lo + n → P s → P (f i s)) → P (fr f lo n s) := by
  intro n
  induction n with
  | zero => exact fun h _ => h
  | succ n ih => exact fun h hs => hs (lo + n) _ (by omega) (by omega) (ih h (fun i s h1 h2 => hs i s h1 (by omega)))
/-- no votes where there is none -/
abbrev VZ (n0 n1 : Nat) (s : VS) : Prop := ∀ p i, p < 8 → i < 12 → (n1 ≤ p ∨ n0 ≤ i) → s.2.2 (12 * p + i) = 0
theorem bump_z {n0 n1 : Nat} {v : Nat → Int32} (h : ∀ p i, p < 8 → i < 12 → (n1 ≤ p ∨ n0 ≤ i) → v (12 * p + i) = 0) {p i : Nat} (hp : p < n1) (hi : i < n0) (h0 : n0 ≤ 12) : ∀ q j, q < 8 → j < 12 → (n1 ≤ q ∨ n0 ≤ j) → bumpF v (12 * p + i) (12 * q + j) = 0 := fun q j hq hj ho => by
  show (if 12 * q + j = 12 * p + i then _ else v (12 * q + j)) = 0
  rw [if_neg (by omega)]
  exact h q j hq hj ho
theorem tries_z {d : Nat → Int32} {tol : Int32} {n0 n1 p q r i j k : Nat} {s : VS} (h0 : n0 ≤ 12) (hp : p < n1) (hq : q < n1) (hr : r < n1) (hi : i < n0) (hj : j < n0) (hk : k < n0) (h : VZ n0 n1 s) : VZ n0 n1 (triesX d tol p q r i j k s) := by
  unfold triesX
  split
  · split
    · split
      · exact bump_z (bump_z (bump_z h hp hi h0) hq hj h0) hr hk h0
      · exact h
    · exact h
  · exact h
theorem votes_z (d : Nat → Int32) (b tol g : Int32) {n0 n1 : Nat} (h0 : n0 ≤ 12) (h8 : n1 ≤ 8) (v : Nat → Int32) : VZ n0 n1 (votesX d b tol g n0 n1 v) := by
  unfold votesX
  refine fz_inv (P := VZ n0 n1) n1 (fun p i hp hi _ => zerosF_at v 96 _ (by omega)) fun p s hp hs => ?_
  unfold votesX2
  refine fr_inv (P := VZ n0 n1) _ _ hs fun q s hq1 hq2 hs => ?_
  unfold votesX3
  refine fr_inv (P := VZ n0 n1) _ _ hs fun r s hr1 hr2 hs => ?_
  unfold votesX4
  split
  · exact hs
  · split
    · exact hs
    · split
      · exact hs
      · unfold looksX
        refine fz_inv (P := VZ n0 n1) n0 hs fun i s hi hs => ?_
        unfold looksX2
        refine fr_inv (P := VZ n0 n1) _ _ hs fun j s hj1 hj2 hs => ?_
        unfold looksX3
        refine fr_inv (P := VZ n0 n1) _ _ hs fun k s hk1 hk2 hs => ?_
        unfold meetsX
        split
        · unfold sixX
          have hp9 : p < n1 := hp
          have hq9 : q < n1 := by omega
          have hr9 : r < n1 := by omega
          have hj9 : j < n0 := by omega
          have hk9 : k < n0 := by omega
          exact tries_z h0 hp9 hq9 hr9 hk9 hj9 hi (tries_z h0 hp9 hq9 hr9 hk9 hi hj9 (tries_z h0 hp9 hq9 hr9 hj9 hk9 hi (tries_z h0 hp9 hq9 hr9 hj9 hi hk9 (tries_z h0 hp9 hq9 hr9 hi hk9 hj9 (tries_z h0 hp9 hq9 hr9 hi hj9 hk9 hs)))))
        · exact hs
theorem spotF_eq {rk : Nat → Int32} {x : Int32} {p0 : Nat} (h0 : p0 < 8) (h : ∀ p, p < 8 → (rk p = x ↔ p = p0)) : spotF rk x 8 = nI p0 := by
  have e : ∀ n, n ≤ 8 → spotF rk x n = if p0 < n then nI p0 else -1 := by
    intro n
    induction n with
    | zero => intro _; rfl
    | succ n ih =>
      intro hn
      have es : spotF rk x (n + 1) = if rk n = x then nI n else spotF rk x n := by unfold spotF; exact fz_s _ _ _
      rw [es, ih (by omega)]
      by_cases c : rk n = x
      · have := (h n (by omega)).mp c
        subst this
        rw [if_pos c, if_pos (by omega)]
      · have hne : ¬ n = p0 := fun q => c ((h n (by omega)).mpr q)
        rw [if_neg c]
        by_cases c2 : p0 < n
        · rw [if_pos c2, if_pos (by omega)]
        · rw [if_neg c2, if_neg (by omega)]
  rw [e 8 (by omega), if_pos h0]
theorem armsX_678 (d : Nat → Int32) (P Q : Nat) (F : Nat → Int64) : armsX F d P Q 6 = armsX F d P Q 1 * armsX F d P Q 5 - armsX F d P Q 2 * armsX F d P Q 4 ∧ armsX F d P Q 7 = armsX F d P Q 2 * armsX F d P Q 3 - armsX F d P Q 0 * armsX F d P Q 5 ∧ armsX F d P Q 8 = armsX F d P Q 0 * armsX F d P Q 4 - armsX F d P Q 1 * armsX F d P Q 3 := by
  have y : ∀ W : Nat → Int64, crsB W 6 = W 1 * W 5 - W 2 * W 4 ∧ crsB W 7 = W 2 * W 3 - W 0 * W 5 ∧ crsB W 8 = W 0 * W 4 - W 1 * W 3 ∧ crsB W 0 = W 0 ∧ crsB W 1 = W 1 ∧ crsB W 2 = W 2 ∧ crsB W 3 = W 3 ∧ crsB W 4 = W 4 ∧ crsB W 5 = W 5 := fun W => ⟨rfl, rfl, rfl, rfl, rfl, rfl, rfl, rfl, rfl⟩
  obtain ⟨y6, y7, y8, y0, y1, y2, y3, y4, y5⟩ := y (crsL (layL F d P) d Q)
  unfold armsX
  rw [y0, y1, y2, y3, y4, y5]
  exact ⟨y6, y7, y8⟩
/-- arms of both -/
theorem arms_same (d : Nat → Int32) (P Q : Nat) (w F : Nat → Int64) : ∀ j, j < 9 → armsF d P Q w j = armsX F d P Q j := by
  have x0 : armsX F d P Q 0 = (d (P + 0)).toInt64 := rfl
  have x1 : armsX F d P Q 1 = (d (P + 1)).toInt64 := rfl
  have x2 : armsX F d P Q 2 = (d (P + 2)).toInt64 := rfl
  have x3 : armsX F d P Q 3 = (d (P + 1)).toInt64 * (d (Q + 2)).toInt64 - (d (P + 2)).toInt64 * (d (Q + 1)).toInt64 := rfl
  have x4 : armsX F d P Q 4 = (d (P + 2)).toInt64 * (d (Q + 0)).toInt64 - (d (P + 0)).toInt64 * (d (Q + 2)).toInt64 := rfl
  have x5 : armsX F d P Q 5 = (d (P + 0)).toInt64 * (d (Q + 1)).toInt64 - (d (P + 1)).toInt64 * (d (Q + 0)).toInt64 := rfl
  have y : ∀ W : Nat → Int64, crsB W 6 = W 1 * W 5 - W 2 * W 4 ∧ crsB W 7 = W 2 * W 3 - W 0 * W 5 ∧ crsB W 8 = W 0 * W 4 - W 1 * W 3 ∧ crsB W 0 = W 0 ∧ crsB W 1 = W 1 ∧ crsB W 2 = W 2 ∧ crsB W 3 = W 3 ∧ crsB W 4 = W 4 ∧ crsB W 5 = W 5 := fun W => ⟨rfl, rfl, rfl, rfl, rfl, rfl, rfl, rfl, rfl⟩
  obtain ⟨y6, y7, y8, y0, y1, y2, y3, y4, y5⟩ := y (crsL (layL F d P) d Q)
  have z6 : armsX F d P Q 6 = armsX F d P Q 1 * armsX F d P Q 5 - armsX F d P Q 2 * armsX F d P Q 4 := by unfold armsX; rw [y6, y1, y5, y2, y4]
  have z7 : armsX F d P Q 7 = armsX F d P Q 2 * armsX F d P Q 3 - armsX F d P Q 0 * armsX F d P Q 5 := by unfold armsX; rw [y7, y2, y3, y0, y5]
  have z8 : armsX F d P Q 8 = armsX F d P Q 0 * armsX F d P Q 4 - armsX F d P Q 1 * armsX F d P Q 3 := by unfold armsX; rw [y8, y0, y4, y1, y3]
  obtain ⟨m6, m7, m8⟩ := armsF_678 d P Q w
  have m0 := armsF_0 d P Q w
  have m1 := armsF_1 d P Q w
  have m2 := armsF_2 d P Q w
  have m3 := armsF_3 d P Q w
  have m4 := armsF_4 d P Q w
  have m5 := armsF_5 d P Q w
  intro j hj
  match j, hj with
  | 0, _ => rw [m0, x0]
  | 1, _ => rw [m1, x1]
  | 2, _ => rw [m2, x2]
  | 3, _ => rw [m3, x3]
  | 4, _ => rw [m4, x4]
  | 5, _ => rw [m5, x5]
  | 6, _ => rw [m6, z6, m1, m5, m2, m4, x1, x5, x2, x4]
  | 7, _ => rw [m7, z7, m2, m3, m0, m5, x2, x3, x0, x5]
  | 8, _ => rw [m8, z8, m0, m4, m1, m3, x0, x4, x1, x3]
  | j + 9, h => exact absurd h (by omega)
