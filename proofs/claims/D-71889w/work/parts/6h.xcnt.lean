/-! PURE WORDS: counts as the model has them -/
theorem tx_none {v : Nat → Int32} {few : Int32} {n0 n1 : Nat} (h0 : n0 ≤ 12) (h8 : n1 ≤ 8) {p : Nat} (hp : n1 ≤ p) : ∀ (f : Nat) (s : TX), s.1 p = -1 → (takesXL v few n0 n1 f s).1 p = -1 := by
  intro f
  induction f with
  | zero => exact fun s h => h
  | succ f ih =>
    intro s h
    rw [takesXL_s]
    by_cases e : (oneP v few s.1 n0 n1).1 = -1
    · rw [if_pos e]; exact h
    · rw [if_neg e]
      refine ih _ ?_
      show upd s.1 (oneP v few s.1 n0 n1).1.toNatClampNeg (oneP v few s.1 n0 n1).2 p = -1
      have := (oneP_lt (v := v) (few := few) (st := s.1) h0 n1 h8 e).1
      rw [upd_nej _ _ (by omega)]
      exact h
theorem ans_none {d many se : Nat → Int32} (hM : Mok many) (tol g : Int32) {p : Nat} (hp : nK many 1 ≤ p) (h8 : p < 8) : (ansX d many se tol g).2.1.1 p = -1 := by
  have h0 : nK many 0 ≤ 12 := (hM 0 (by decide)).2
  have h1 : nK many 1 ≤ 8 := (hM 1 (by decide)).2
  unfold ansX
  rw [solX_eq d se tol g (nK many 0) (nK many 1) sx0 _ _ _ _ rfl rfl rfl rfl]
  exact tx_none h0 h1 hp 8 _ (noneF_at _ 8 p h8)
theorem wrong_more {st su : Nat → Int32} {n1 : Nat} (h : ∀ p, n1 ≤ p → p < 8 → st p = -1) : ∀ k, n1 + k ≤ 8 → wrgX st su (n1 + k) = wrgX st su n1 := by
  intro k
  induction k with
  | zero => intro _; rfl
  | succ k ih =>
    intro hk
    show wrgX st su (n1 + k + 1) = _
    rw [wrgX_s, ih (by omega)]
    unfold wrongS
    rw [if_pos (h (n1 + k) (by omega) (by omega))]
    simp
theorem wrong_eq {σ : Sm} {τ : Sm} {A : SX} {n0 n1 : Nat} (h8 : n1 ≤ 8) (h : FndV n0 n1 τ A) (hA : ∀ p, n1 ≤ p → p < 8 → A.2.1.1 p = -1) : wrongF τ.starOf τ.sure 8 = wrgX A.2.1.1 A.2.2.2.2.1 n1 := by
  have e : wrongF τ.starOf τ.sure 8 = wrgX τ.starOf τ.sure 8 := rfl
  have hs : ∀ p, n1 ≤ p → p < 8 → τ.starOf p = -1 := fun p h1 h2 => (h.2.2.2.1 p h2).trans (hA p h1 h2)
  have m := wrong_more (su := τ.sure) hs (8 - n1) (by omega)
  rw [show n1 + (8 - n1) = 8 by omega] at m
  rw [e, m]
  exact wrgX_c (fun p hp => h.2.2.2.1 p (by omega)) (fun p hp => h.2.2.2.2.2.2.2.2.2.1 p hp)
theorem ones_eq : ∀ k, k < 256 → onesF (nI k) 8 = on8 8 k 0 := by decide +kernel
theorem all_eq (f : Nat → Int32) : allL f = thingsF f := by
  unfold allL thingsF
  rw [Int32.zero_add]
theorem find_rest (σ : Sm) : (findM σ).trayMany = σ.trayMany ∧ (findM σ).latest = σ.latest ∧ (findM σ).tray = σ.tray ∧ (findM σ).holds = σ.holds ∧ (findM σ).forms = σ.forms ∧ (findM σ).sizes = σ.sizes ∧ (findM σ).items = σ.items ∧ (findM σ).drawn = σ.drawn := by
  rw [findM_eq σ _ rfl _ rfl _ rfl _ rfl]
  exact ⟨rfl, rfl, rfl, rfl, rfl, rfl, rfl, rfl⟩
theorem cnt_eq {σ : Sm} (hM : Mok σ.many) (hd : DirA σ.dir) (hb : 1 ≤ (σ.settings 0).toInt) (hf : 1 ≤ (σ.settings 2).toInt) (w : Int32) : countV (findM σ) w = cntX σ.dir σ.many σ.settings σ.gone σ.latest σ.trayMany w := by
  have hv := find_vis hM hd hb hf
  have h8 : nK σ.many 1 ≤ 8 := (hM 1 (by decide)).2
  have hw := wrong_eq (σ := σ) h8 hv (fun p h1 h2 => ans_none hM _ _ h1 h2)
  obtain ⟨k1, k2, k3, k4⟩ := find_keep σ
  obtain ⟨r1, r2, -⟩ := find_rest σ
  obtain ⟨k, hk, ek⟩ := wrgX_nat (ansX σ.dir σ.many σ.settings (σ.settings 1) σ.gone).2.1.1 (ansX σ.dir σ.many σ.settings (σ.settings 1) σ.gone).2.2.2.2.1 (nK σ.many 1) h8
  have hk2 : k < 256 := Nat.lt_of_lt_of_le hk (Nat.pow_le_pow_right (by decide) h8)
  unfold countV cntX
  rw [hw, ek, ones_eq k hk2, tn_nI (by omega), k2, k3, r1, r2, all_eq, hv.2.1, hv.2.2.2.2.2.1, hv.2.2.2.2.2.2.2.2.1]
