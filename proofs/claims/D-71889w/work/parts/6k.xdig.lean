/-! PURE WORDS: counts and things in the digest, as the model has them -/
def Same (σ τ : Sm) : Prop := τ.dir = σ.dir ∧ τ.many = σ.many ∧ τ.settings = σ.settings ∧ τ.gone = σ.gone ∧ τ.latest = σ.latest ∧ τ.trayMany = σ.trayMany ∧ τ.tray = σ.tray
theorem Same.rf (σ : Sm) : Same σ σ := ⟨rfl, rfl, rfl, rfl, rfl, rfl, rfl⟩
theorem same_find {σ τ : Sm} (h : Same σ τ) : Same σ (findM τ) := by
  obtain ⟨e1, e2, e3, e4⟩ := find_keep τ
  obtain ⟨r1, r2, r3, -⟩ := find_rest τ
  obtain ⟨h1, h2, h3, h4, h5, h6, h7⟩ := h
  exact ⟨e1.trans h1, e2.trans h2, e3.trans h3, e4.trans h4, r2.trans h5, r1.trans h6, r3.trans h7⟩
theorem cnts_rel {σ : Sm} (hM : Mok σ.many) (hd : DirA σ.dir) (hb : 1 ≤ (σ.settings 0).toInt) (hf : 1 ≤ (σ.settings 2).toInt) (y : Int64) : ∀ (n k : Nat) (τ : Sm) (h : Int64), Same σ τ → h = cntsX σ.dir σ.many σ.settings σ.gone σ.latest σ.trayMany k y → (cntL n k (τ, h)).2 = cntsX σ.dir σ.many σ.settings σ.gone σ.latest σ.trayMany (k + n) y ∧ Same σ (cntL n k (τ, h)).1 := by
  intro n
  induction n with
  | zero => exact fun k τ h hs e => ⟨e, hs⟩
  | succ n ih =>
    intro k τ h hs e
    have hc : countV (findM τ) (nI k) = cntX σ.dir σ.many σ.settings σ.gone σ.latest σ.trayMany (nI k) := by
      obtain ⟨h1, h2, h3, h4, h5, h6, -⟩ := hs
      have := cnt_eq (σ := τ) (by rw [h2]; exact hM) (by rw [h1]; exact hd) (by rw [h3]; exact hb) (by rw [h3]; exact hf) (nI k)
      rw [h1, h2, h3, h4, h5, h6] at this
      exact this
    show (cntL n (k + 1) (cntS (nI k) (τ, h))).2 = _ ∧ Same σ (cntL n (k + 1) (cntS (nI k) (τ, h))).1
    rw [cntS_eq (nI k) τ h _ _ rfl rfl, hc]
    have hs2 := same_find hs
    generalize findM τ = υ at *
    have := ih (k + 1) υ (dg h (cntX σ.dir σ.many σ.settings σ.gone σ.latest σ.trayMany (nI k))) hs2 (by rw [cntsX_s, e])
    rw [show k + 1 + n = k + (n + 1) by omega] at this
    exact this
theorem things_eq {tm tr : Nat → Int32} (h : ∀ q i, q < 4 → i < 4 → shareX tm tr (nI q) 0 (nI i) = shareR tm tr (nI q) 0 (nI i)) (y : Int64) : thQX tm tr 4 y = thgQ tm tr 4 y := by
  unfold thQX thgQ
  refine fz_cong 4 y fun q s hq => ?_
  unfold thIX thgI
  refine fz_cong 4 s fun i s hi => ?_
  rw [h q i hq hi]
