/-! PURE WORDS: what the model finds is what the tracker solves -/
theorem trn_B {d : Nat → Int32} (hd : DirA d) {n0 n1 : Nat} {t : TX} (h0 : n0 ≤ 12) (h8 : n1 ≤ 8) (h2 : TwoOk n0 n1 t) (F G : Nat → Int64) (g : Nat → Int32) : ¬ (trnT d n0 t F G g).1 = 0 → ∀ j, j < 3 * n0 → ((trnT d n0 t F G g).2.2.2 j).toInt.natAbs ≤ 2147483000 := by
  unfold trnT trnX
  by_cases c : t.2.2.2 ≤ 1
  · rw [if_pos c]
    exact fun h => absurd rfl h
  · rw [if_neg c]
    obtain ⟨p0, p1, i0, i1, l0, l1, m0, m1, e0, e1, f0, f1⟩ := h2 c
    rw [e0, e1, tn_nI (by omega), tn_nI (by omega), f0, f1, tn_nI (by omega), tn_nI (by omega)]
    unfold trn2
    by_cases b1 : anyX (armsX F d (36 * 0 + 3 * i0) (36 * 0 + 3 * i1))
    · rw [if_pos b1]
      by_cases b2 : anyX (armsX G d (36 * 1 + 3 * p0) (36 * 1 + 3 * p1))
      · rw [if_pos b2]
        intro _ j hj
        show (plcsX _ _ _ n0 g j).toInt.natAbs ≤ _
        rw [plcsX_at _ _ _ _ _ j hj]
        exact crd_B hd (by omega) (by omega) (by omega) (by omega) (by omega) (by omega) F G b1
      · rw [if_neg b2]; exact fun h => absurd rfl h
    · rw [if_neg b1]; exact fun h => absurd rfl h
/-- the model's parts that are found, as seen -/
def FndV (n0 n1 : Nat) (τ : Sm) (A : SX) : Prop := τ.lookedAt = A.1.1 ∧ τ.mats = A.1.2.1 ∧ (∀ j, j < 96 → τ.votes j = A.1.2.2 j) ∧ (∀ p, p < 8 → τ.starOf p = A.2.1.1 p) ∧ (∀ p, p < 8 → τ.rankOf p = A.2.1.2.1 p) ∧ τ.pairs = A.2.1.2.2.2 ∧ τ.isTurn = A.2.2.1.1 ∧ (¬ A.2.2.1.1 = 0 → ∀ j, j < 3 * n0 → τ.placeOf j = A.2.2.1.2.2.2 j) ∧ τ.manySure = cnfN A.2.2.2.2.1 n1 ∧ (∀ p, p < n1 → τ.sure p = A.2.2.2.2.1 p) ∧ (∀ p, p < n1 → τ.far p = A.2.2.2.2.2 p)
theorem FndV.vis {n0 n1 : Nat} {τ : Sm} {A B : SX} (h : FndV n0 n1 τ A) (g : VisX n0 n1 A B) : FndV n0 n1 τ B := by
  obtain ⟨h1, h2, h3, h4, h5, h6, h7, h8, h9, h10, h11⟩ := h
  obtain ⟨g1, g2, g3, g4, g5, g6, g7, g8, g9, g10⟩ := g
  exact ⟨h1.trans g1, h2.trans g2, fun j hj => (h3 j hj).trans (g3 j hj), fun p hp => (h4 p hp).trans (g4 p hp), fun p hp => (h5 p hp).trans (g5 p hp), h6.trans g6, h7.trans g7, fun hn j hj => (h8 (by rw [g7]; exact hn) j hj).trans (g8 hn j hj), h9.trans (cnfN_c (fun p hp => g9 p hp)), fun p hp => (h10 p hp).trans (g9 p hp), fun p hp => (h11 p hp).trans (g10 p hp)⟩
theorem find_vis {σ : Sm} (hM : Mok σ.many) (hd : DirA σ.dir) (hb : 1 ≤ (σ.settings 0).toInt) (hf : 1 ≤ (σ.settings 2).toInt) : FndV (nK σ.many 0) (nK σ.many 1) (findM σ) (ansX σ.dir σ.many σ.settings (σ.settings 1) σ.gone) := by
  have h0 : nK σ.many 0 ≤ 12 := (hM 0 (by decide)).2
  have h8 : nK σ.many 1 ≤ 8 := (hM 1 (by decide)).2
  refine FndV.vis ?_ (vis_sol σ.dir σ.settings (σ.settings 1) σ.gone h0 h8 ((0, 0, σ.votes), (fun _ => 0, fun _ => 0, fun _ => 0, 0), (0, fun _ => 0, fun _ => 0, fun _ => 0), (fun _ => 0, fun _ => 0, fun _ => 0)) sx0)
  rw [findM_eq σ _ rfl _ rfl _ rfl _ rfl, solX_eq σ.dir σ.settings (σ.settings 1) σ.gone (nK σ.many 0) (nK σ.many 1) _ _ _ _ _ rfl rfl rfl rfl]
  have ev := votes_eq (tol := σ.settings 1) (g := σ.gone) hd hb h0 h8 σ.votes
  have hz := votes_z σ.dir (σ.settings 0) (σ.settings 1) σ.gone h0 h8 σ.votes
  rw [ev] at hz
  show FndV _ _ (findG σ _ _ _ _) (votesX σ.dir (σ.settings 0) (σ.settings 1) σ.gone (nK σ.many 0) (nK σ.many 1) σ.votes, takesX (votesX σ.dir (σ.settings 0) (σ.settings 1) σ.gone (nK σ.many 0) (nK σ.many 1) σ.votes).2.2 (σ.settings 2) (nK σ.many 0) (nK σ.many 1) (fun _ => 0, fun _ => 0, fun _ => 0, 0), _, _)
  rw [ev]
  generalize votesF σ.dir (σ.settings 0) (σ.settings 1) σ.gone (nK σ.many 0) (nK σ.many 1) σ.votes = v at *
  have zf : ∀ p i, p < 8 → i < 12 → (nK σ.many 1 ≤ p ∨ nK σ.many 0 ≤ i) → ¬ σ.settings 2 ≤ v.2.2 (12 * p + i) := fun p i hp hi ho => by
    have z : (0 : Int32).toInt = 0 := by decide
    rw [hz p i hp hi ho, Int32.le_iff_toInt_le, z]
    omega
  obtain ⟨k, hI, hR⟩ := takesF_rel (few := σ.settings 2) h0 h8 zf (σ.starOf, σ.rankOf, σ.used, σ.pairs) (fun _ => 0, fun _ => 0, fun _ => 0, 0)
  have h2 := takesX_two v.2.2 (σ.settings 2) h0 h8 (fun _ => 0, fun _ => 0, fun _ => 0, 0)
  generalize takesF v.2.2 (σ.settings 2) (σ.starOf, σ.rankOf, σ.used, σ.pairs) = K at *
  generalize takesX v.2.2 (σ.settings 2) (nK σ.many 0) (nK σ.many 1) (fun _ => 0, fun _ => 0, fun _ => 0, 0) = T at *
  have ht := turn_vis hd h0 h8 hI hR h2 σ.starArm σ.spotArm σ.self (fun _ => 0) (fun _ => 0) σ.placeOf (fun _ => 0)
  have hB := trn_B hd h0 h8 h2 (fun _ => 0) (fun _ => 0) (fun _ => 0)
  show FndV _ _ (findG σ v K (turnF σ.dir (nK σ.many 0) K.1 K.2.1 K.2.2.2 σ.starArm σ.spotArm σ.self σ.placeOf) _) (v, T, trnT σ.dir (nK σ.many 0) T (fun _ => 0) (fun _ => 0) (fun _ => 0), cnfX σ.dir (trnT σ.dir (nK σ.many 0) T (fun _ => 0) (fun _ => 0) (fun _ => 0)).2.2.2 (σ.settings 3) (trnT σ.dir (nK σ.many 0) T (fun _ => 0) (fun _ => 0) (fun _ => 0)).1 σ.gone (nK σ.many 0) (nK σ.many 1) (fun _ => 0, fun _ => 0, fun _ => 0))
  generalize turnF σ.dir (nK σ.many 0) K.1 K.2.1 K.2.2.2 σ.starArm σ.spotArm σ.self σ.placeOf = N at *
  generalize trnT σ.dir (nK σ.many 0) T (fun _ => 0) (fun _ => 0) (fun _ => 0) = z at *
  have hc := conf_vis (near := σ.settings 3) (it := z.1) (g := σ.gone) (pm := N.2.2.2.2) (px := z.2.2.2) hd h8 h0 (fun hn j hj => ⟨ht.2 hn j hj, hB hn j hj⟩) (σ.manySure, K.2.2.1, σ.sure, σ.far) (fun _ => 0, fun _ => 0, fun _ => 0)
  rw [ht.1]
  generalize confF σ.dir N.2.2.2.2 (σ.settings 3) z.1 σ.gone (nK σ.many 0) (nK σ.many 1) (σ.manySure, K.2.2.1, σ.sure, σ.far) = C at *
  generalize cnfX σ.dir z.2.2.2 (σ.settings 3) z.1 σ.gone (nK σ.many 0) (nK σ.many 1) (fun _ => 0, fun _ => 0, fun _ => 0) = c at *
  exact ⟨rfl, rfl, fun _ _ => rfl, hR.2.1, hR.2.2.1, hR.1, ht.1, ht.2, hc.1, fun p hp => (hc.2.2 p hp).1, fun p hp => (hc.2.2 p hp).2⟩
