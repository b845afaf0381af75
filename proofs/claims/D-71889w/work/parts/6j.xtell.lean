/-! PURE WORDS: the sky in the digest, as the model has it -/
theorem votesD_cong {vt vu : Nat → Int32} {p n : Nat} (x : Int64) (h : ∀ i, i < n → vt (12 * p + i) = vu (12 * p + i)) : votesD vt p n x = votesD vu p n x := by
  unfold votesD
  refine fz_cong n x fun i s hi => ?_
  rw [h i hi]
theorem tells_eq {many dir se : Nat → Int32} {τ : Sm} {A : SX} (h0 : nK many 0 ≤ 12) (h8 : nK many 1 ≤ 8) (h : FndV (nK many 0) (nK many 1) τ A) (y : Int64) : starsX A.2.2.1.1 A.2.2.1.2.2.2 many dir se (nK many 0) (spotsX A.2.1.1 A.2.1.2.1 A.2.2.2.2.1 A.2.2.2.2.2 A.1.2.2 (nK many 0) (nK many 1) y) = tellsF many dir se τ.starOf τ.rankOf τ.sure τ.far τ.votes τ.placeOf τ.isTurn y := by
  obtain ⟨-, -, g3, g4, g5, -, g7, g8, -, g10, g11⟩ := h
  have e1 : spotsX A.2.1.1 A.2.1.2.1 A.2.2.2.2.1 A.2.2.2.2.2 A.1.2.2 (nK many 0) (nK many 1) y = fz (fun p x => skyP τ.starOf τ.rankOf τ.sure τ.far τ.votes (nK many 0) p x) (nK many 1) y := by
    unfold spotsX
    refine fz_cong _ y fun p s hp => ?_
    unfold skyP pick2
    simp only [g4 p (by omega), g5 p (by omega), g10 p hp, g11 p hp]
    exact (votesD_cong _ (fun i hi => (g3 (12 * p + i) (by omega)).symm))
  have e2 : ∀ z, starsX A.2.2.1.1 A.2.2.1.2.2.2 many dir se (nK many 0) z = fz (fun i x => skyS τ.isTurn τ.placeOf many dir se i x) (nK many 0) z := fun z => by
    unfold starsX
    refine fz_cong _ z fun i s hi => ?_
    have pr : ∀ u, u < 3 → placeR A.2.2.1.1 A.2.2.1.2.2.2 i u = placeR τ.isTurn τ.placeOf i u := fun u hu => by
      unfold placeR
      rw [g7]
      by_cases c : A.2.2.1.1 = 0
      · rw [if_pos c, if_pos c]
      · rw [if_neg c, if_neg c, g8 c (3 * i + u) (by omega)]
    unfold skyS
    rw [pr 0 (by decide), pr 1 (by decide), pr 2 (by decide)]
  rw [e1, e2]
  rfl
