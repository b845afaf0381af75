/-! PURE WORDS: the turn and its places are the model's -/
theorem any_non {d : Nat → Int32} (hd : DirA d) {P Q : Nat} (hP : P + 2 < 60) (hQ : Q + 2 < 60) (w F : Nat → Int64) : ¬ nonP (armsF d P Q w) ↔ anyX (armsX F d P Q) := by
  have hA := arms_same d P Q w F
  obtain ⟨a, b, c, X, Y, Z, r0, r1, r2, hz, hn0⟩ := arm9 hd hP hQ F
  have q1 : L64 (sq (armsX F d P Q) 1) _ 1200000000 := r64_dot r1 r1 (by decide)
  have e3 : armsX F d P Q 3 = 0 ↔ X = 0 := l64_zero r1.1
  have e4 : armsX F d P Q 4 = 0 ↔ Y = 0 := l64_zero r1.2.1
  have e5 : armsX F d P Q 5 = 0 ↔ Z = 0 := l64_zero r1.2.2
  have en : nonP (armsF d P Q w) ↔ X = 0 ∧ Y = 0 ∧ Z = 0 := by
    unfold nonP
    rw [hA 3 (by decide), hA 4 (by decide), hA 5 (by decide), e3, e4, e5]
  have ea : sq (armsX F d P Q) 1 = 0 ↔ X = 0 ∧ Y = 0 ∧ Z = 0 := by
    rw [l64_zero q1]
    exact ⟨sq_none, fun q => by rw [q.1, q.2.1, q.2.2]; simp⟩
  rw [en, ← ea]
theorem placesF_at (d : Nat → Int32) (A B S : Nat → Int64) (f : Nat → Int32) : ∀ n, ∀ j, j < n → placesF d A B S n f j = coordF d (36 * 0 + 3 * (j / 3)) A B S (j % 3) := by
  intro n
  induction n with
  | zero => intro j hj; omega
  | succ n ih =>
    intro j hj
    have e : placesF d A B S (n + 1) f = upd (placesF d A B S n f) n (coordF d (36 * 0 + 3 * (n / 3)) A B S (n % 3)) := by unfold placesF; exact fz_s _ _ _
    rw [e]
    by_cases c : j = n
    · subst c; rw [upd_eq]
    · rw [upd_nej _ _ c]; exact ih j (by omega)
theorem plcsX_at (d : Nat → Int32) (F G : Nat → Int64) (f : Nat → Int32) : ∀ n, ∀ j, j < 3 * n → plcsX d F G n f j = crdX d (36 * 0 + 3 * (j / 3)) F G (j % 3) := by
  intro n
  induction n with
  | zero => intro j hj; omega
  | succ n ih =>
    intro j hj
    have e : plcsX d F G (n + 1) f = plcX d F G n (plcsX d F G n f) := by unfold plcsX; exact fz_s _ _ _
    rw [e]
    unfold plcX
    by_cases c2 : j = 3 * n + 2
    · subst c2; rw [upd_eq, show (3 * n + 2) / 3 = n by omega, show (3 * n + 2) % 3 = 2 by omega]
    · rw [upd_nej _ _ c2]
      by_cases c1 : j = 3 * n + 1
      · subst c1; rw [upd_eq, show (3 * n + 1) / 3 = n by omega, show (3 * n + 1) % 3 = 1 by omega]
      · rw [upd_nej _ _ c1]
        by_cases c0 : j = 3 * n + 0
        · subst c0; rw [upd_eq, show (3 * n + 0) / 3 = n by omega, show (3 * n + 0) % 3 = 0 by omega]
        · rw [upd_nej _ _ c0]
          exact ih j (by omega)
theorem turn_vis {d : Nat → Int32} (hd : DirA d) {n0 n1 k : Nat} {s : TK} {t : TX} (h0 : n0 ≤ 12) (h8 : n1 ≤ 8) (hI : TxInv t k) (hR : TkR k s t) (h2 : TwoOk n0 n1 t) (A B S F G : Nat → Int64) (f g : Nat → Int32) :
    (turnF d n0 s.1 s.2.1 s.2.2.2 A B S f).1 = (trnT d n0 t F G g).1 ∧ (¬ (trnT d n0 t F G g).1 = 0 → ∀ j, j < 3 * n0 → (turnF d n0 s.1 s.2.1 s.2.2.2 A B S f).2.2.2.2 j = (trnT d n0 t F G g).2.2.2 j) := by
  unfold turnF trnT trnX
  rw [hR.1]
  by_cases c : t.2.2.2 ≤ 1
  · rw [if_pos c, if_pos c]
    exact ⟨rfl, fun h => absurd rfl h⟩
  · rw [if_neg c, if_neg c]
    obtain ⟨p0, p1, i0, i1, l0, l1, m0, m1, e0, e1, f0, f1⟩ := h2 c
    have hk8 : k ≤ 8 := by have := hI.2; omega
    have hk : 2 ≤ k := by
      rcases Nat.lt_or_ge k 2 with q | q
      · exact absurd (by rw [hI.1]; exact (nI_leI (by omega) (by omega : 1 < 2 ^ 31)).mpr (by omega)) c
      · exact q
    have s0 : spotF s.2.1 0 8 = nI p0 := spotF_eq (by omega) fun p hp => by
      have := hR.2.2.2.2.1 p 0 hp (by omega)
      rw [show (0 : Int32) = nI 0 from by decide, this, e0, nI_eq (by omega) (by omega)]
      exact ⟨fun q => q.symm, fun q => q.symm⟩
    have s1 : spotF s.2.1 1 8 = nI p1 := spotF_eq (by omega) fun p hp => by
      have := hR.2.2.2.2.1 p 1 hp (by omega)
      rw [show (1 : Int32) = nI 1 from by decide, this, e1, nI_eq (by omega) (by omega)]
      exact ⟨fun q => q.symm, fun q => q.symm⟩
    rw [s0, s1, e0, e1, tn_nI (by omega), tn_nI (by omega), hR.2.1 p0 (by omega), hR.2.1 p1 (by omega), f0, f1, tn_nI (by omega), tn_nI (by omega)]
    have aA := any_non hd (P := 36 * 0 + 3 * i0) (Q := 36 * 0 + 3 * i1) (by omega) (by omega) A F
    have aB := any_non hd (P := 36 * 1 + 3 * p0) (Q := 36 * 1 + 3 * p1) (by omega) (by omega) B G
    unfold turn2 trn2
    by_cases b1 : anyX (armsX F d (36 * 0 + 3 * i0) (36 * 0 + 3 * i1))
    · by_cases b2 : anyX (armsX G d (36 * 1 + 3 * p0) (36 * 1 + 3 * p1))
      · rw [if_pos (aB.mpr b2), if_pos (aA.mpr b1), if_pos b1, if_pos b2]
        refine ⟨rfl, fun _ j hj => ?_⟩
        show placesF _ _ _ _ (3 * n0) f j = plcsX _ _ _ n0 g j
        rw [placesF_at _ _ _ _ _ _ j hj, plcsX_at _ _ _ _ _ j hj]
        exact coord_eq hd (by omega) (by omega) (by omega) (by omega) (by omega) (by omega) A F B G S b1
      · rw [if_neg (fun q => b2 (aB.mp q)), if_pos b1, if_neg b2]
        exact ⟨rfl, fun h => absurd rfl h⟩
    · rw [if_neg b1]
      by_cases b2 : anyX (armsX G d (36 * 1 + 3 * p0) (36 * 1 + 3 * p1))
      · rw [if_pos (aB.mpr b2), if_neg (fun q => b1 (aA.mp q))]
        exact ⟨rfl, fun h => absurd rfl h⟩
      · rw [if_neg (fun q => b2 (aB.mp q))]
        exact ⟨rfl, fun h => absurd rfl h⟩
