/-! PURE WORDS: better, spare as the model has them -/
theorem ansX_se {d many se su : Nat → Int32} (h0 : se 0 = su 0) (h2 : se 2 = su 2) (h3 : se 3 = su 3) (tol g : Int32) : ansX d many se tol g = ansX d many su tol g := by
  unfold ansX solX solA solB solC
  rw [h0, h2, h3]
/-- the same sky, the same settings but the tolerance -/
def Sky (σ τ : Sm) : Prop := τ.dir = σ.dir ∧ τ.many = σ.many ∧ τ.settings 0 = σ.settings 0 ∧ τ.settings 2 = σ.settings 2 ∧ τ.settings 3 = σ.settings 3
theorem Sky.rf (σ : Sm) : Sky σ σ := ⟨rfl, rfl, rfl, rfl, rfl⟩
theorem find_keep (σ : Sm) : (findM σ).dir = σ.dir ∧ (findM σ).many = σ.many ∧ (findM σ).settings = σ.settings ∧ (findM σ).gone = σ.gone := by
  rw [findM_eq σ _ rfl _ rfl _ rfl _ rfl]
  exact ⟨rfl, rfl, rfl, rfl⟩
theorem sky_find {σ τ : Sm} (h : Sky σ τ) : Sky σ (findM τ) := by
  obtain ⟨e1, e2, e3, -⟩ := find_keep τ
  exact ⟨e1.trans h.1, e2.trans h.2.1, (congrFun e3 0).trans h.2.2.1, (congrFun e3 2).trans h.2.2.2.1, (congrFun e3 3).trans h.2.2.2.2⟩
theorem sky_vis {σ τ : Sm} (hM : Mok σ.many) (hd : DirA σ.dir) (hb : 1 ≤ (σ.settings 0).toInt) (hf : 1 ≤ (σ.settings 2).toInt) (h : Sky σ τ) : FndV (nK σ.many 0) (nK σ.many 1) (findM τ) (ansX σ.dir σ.many σ.settings (τ.settings 1) τ.gone) := by
  have := find_vis (σ := τ) (by rw [h.2.1]; exact hM) (by rw [h.1]; exact hd) (by rw [h.2.2.1]; exact hb) (by rw [h.2.2.2.1]; exact hf)
  rw [h.1, h.2.1, ansX_se h.2.2.1 h.2.2.2.1 h.2.2.2.2] at this
  exact this
theorem gre_max (m x : Int32) : greF x m = maxX m x := rfl
theorem bet_rel {σ : Sm} (hM : Mok σ.many) (hd : DirA σ.dir) (hb : 1 ≤ (σ.settings 0).toInt) (hf : 1 ≤ (σ.settings 2).toInt) : ∀ (n k : Nat) (τ : Sm) (b m : Int32), Sky σ τ → τ.gone = σ.gone → (b, m) = betX σ.dir σ.many σ.settings σ.gone k → (betL n k (τ, b, m)).2 = betX σ.dir σ.many σ.settings σ.gone (k + n) ∧ Sky σ (betL n k (τ, b, m)).1 ∧ (betL n k (τ, b, m)).1.gone = σ.gone := by
  intro n
  induction n with
  | zero => exact fun k τ b m h g e => ⟨e, h, g⟩
  | succ n ih =>
    intro k τ b m h g e
    have em : (50 : Int32) * nI k = nI (50 * k) := ix_mul (by decide) rfl
    have hs : Sky σ (τ.s_settings (upd τ.settings 1 (nI (50 * k)))) := ⟨h.1, h.2.1, (upd_nej τ.settings (k := 1) (j := 0) (nI (50 * k)) (by decide)).trans h.2.2.1, (upd_nej τ.settings (k := 1) (j := 2) (nI (50 * k)) (by decide)).trans h.2.2.2.1, (upd_nej τ.settings (k := 1) (j := 3) (nI (50 * k)) (by decide)).trans h.2.2.2.2⟩
    have hv := sky_vis hM hd hb hf hs
    have e1 : (τ.s_settings (upd τ.settings 1 (nI (50 * k)))).settings 1 = 50 * nI k := by
      show upd τ.settings 1 (nI (50 * k)) 1 = _
      rw [upd_eq, em]
    have e2 : (τ.s_settings (upd τ.settings 1 (nI (50 * k)))).gone = σ.gone := g
    rw [e1, e2] at hv
    have hg := (find_keep (τ.s_settings (upd τ.settings 1 (nI (50 * k))))).2.2.2.trans e2
    have hk := sky_find hs
    show (betL n (k + 1) (betS k (τ, b, m))).2 = _ ∧ Sky σ (betL n (k + 1) (betS k (τ, b, m))).1 ∧ (betL n (k + 1) (betS k (τ, b, m))).1.gone = σ.gone
    rw [betS_eq k τ b m _ rfl]
    generalize findM (τ.s_settings (upd τ.settings 1 (nI (50 * k)))) = υ at *
    have ms := hv.2.2.2.2.2.2.2.2.1
    have := ih (k + 1) υ (if υ.manySure ≤ m then b else nI (50 * k)) (greF υ.manySure m) hk hg (by
      rw [betX_s, ← e]
      unfold btX
      rw [← ms, gre_max, em])
    rw [show k + 1 + n = k + (n + 1) by omega] at this
    exact this
theorem bet_eq {σ : Sm} (hM : Mok σ.many) (hd : DirA σ.dir) (hb : 1 ≤ (σ.settings 0).toInt) (hf : 1 ≤ (σ.settings 2).toInt) (w : Int32) : betR σ w = two2 (betX σ.dir σ.many σ.settings σ.gone 21) w := by
  have h := (bet_rel hM hd hb hf 21 0 σ (-1) (-1) (Sky.rf σ) rfl rfl).1
  unfold betR two2
  rw [h]
theorem spa_rel {σ : Sm} (hM : Mok σ.many) (hd : DirA σ.dir) (hb : 1 ≤ (σ.settings 0).toInt) (hf : 1 ≤ (σ.settings 2).toInt) : ∀ (n k : Nat) (τ : Sm) (b m : Int32), Sky σ τ → τ.settings 1 = σ.settings 1 → (b, m) = spaX σ.dir σ.many σ.settings k → (spaL n k (τ, b, m)).2 = spaX σ.dir σ.many σ.settings (k + n) ∧ Sky σ (spaL n k (τ, b, m)).1 ∧ (spaL n k (τ, b, m)).1.settings 1 = σ.settings 1 := by
  intro n
  induction n with
  | zero => exact fun k τ b m h g e => ⟨e, h, g⟩
  | succ n ih =>
    intro k τ b m h g e
    have hs : Sky σ (τ.s_gone (nI k)) := ⟨h.1, h.2.1, h.2.2.1, h.2.2.2.1, h.2.2.2.2⟩
    have hv := sky_vis hM hd hb hf hs
    have e1 : (τ.s_gone (nI k)).settings 1 = σ.settings 1 := g
    have e2 : (τ.s_gone (nI k)).gone = nI k := rfl
    rw [e1, e2] at hv
    have hg := (congrFun (find_keep (τ.s_gone (nI k))).2.2.1 1).trans e1
    have hk := sky_find hs
    show (spaL n (k + 1) (spaS k (τ, b, m))).2 = _ ∧ Sky σ (spaL n (k + 1) (spaS k (τ, b, m))).1 ∧ (spaL n (k + 1) (spaS k (τ, b, m))).1.settings 1 = σ.settings 1
    rw [spaS_eq k τ b m _ rfl]
    generalize findM (τ.s_gone (nI k)) = υ at *
    have ms := hv.2.2.2.2.2.2.2.2.1
    have := ih (k + 1) υ (if υ.manySure ≤ m then b else nI k) (greF υ.manySure m) hk hg (by
      rw [spaX_s, ← e]
      unfold spX
      rw [← ms, gre_max])
    rw [show k + 1 + n = k + (n + 1) by omega] at this
    exact this
theorem spa_eq {σ : Sm} (hM : Mok σ.many) (hd : DirA σ.dir) (hb : 1 ≤ (σ.settings 0).toInt) (hf : 1 ≤ (σ.settings 2).toInt) (w : Int32) : spaR σ w = two2 (spaX σ.dir σ.many σ.settings (nK σ.many 1)) w := by
  have h := (spa_rel hM hd hb hf (nK σ.many 1) 0 σ (-1) (-1) (Sky.rf σ) rfl rfl).1
  rw [Nat.zero_add] at h
  unfold spaR two2
  rw [h]
