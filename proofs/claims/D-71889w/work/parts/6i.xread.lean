/-! PURE WORDS: adding, reading as the model does -/
theorem addK_ad (σ : Sm) (k : Nat) (x y z : Int32) : (addK σ k x y z).2.dir = adD σ.dir σ.many k x y z ∧ (addK σ k x y z).2.many = adM σ.many k x y z ∧ (addK σ k x y z).1 = adR σ.many k x y z ∧ (addK σ k x y z).2.sizes = σ.sizes ∧ (addK σ k x y z).2.items = σ.items ∧ (addK σ k x y z).2.forms = σ.forms ∧ (addK σ k x y z).2.settings = σ.settings ∧ (addK σ k x y z).2.gone = σ.gone ∧ (addK σ k x y z).2.latest = σ.latest ∧ (addK σ k x y z).2.tray = σ.tray ∧ (addK σ k x y z).2.trayMany = σ.trayMany ∧ (addK σ k x y z).2.holds = σ.holds := by
  unfold addK adD adM adR adP
  by_cases h1 : dirP x y z
  · by_cases h2 : nK σ.many k = mxK k
    · rw [if_pos h1, if_pos h2, if_neg (fun q => q.2 h2), if_neg (fun q => q.2 h2), if_pos h1, if_pos h2]
      exact ⟨rfl, rfl, rfl, rfl, rfl, rfl, rfl, rfl, rfl, rfl, rfl, rfl⟩
    · rw [if_pos h1, if_neg h2, if_pos ⟨h1, h2⟩, if_pos ⟨h1, h2⟩, if_pos h1, if_neg h2]
      exact ⟨rfl, rfl, upd_eq _ _ _, rfl, rfl, rfl, rfl, rfl, rfl, rfl, rfl, rfl⟩
  · rw [if_neg h1, if_neg (fun q => h1 q.1), if_neg (fun q => h1 q.1), if_neg h1]
    exact ⟨rfl, rfl, rfl, rfl, rfl, rfl, rfl, rfl, rfl, rfl, rfl, rfl⟩
theorem adR_iff {many : Nat → Int32} {k : Nat} {x y z : Int32} (hM : Mok many) (hk : k < 2) : 0 ≤ adR many k x y z ↔ adP many k x y z := by
  have h1 := (hM k hk).2
  have h2 := mx_le hk
  constructor
  · intro q
    unfold adR at q
    by_cases c1 : dirP x y z
    · rw [if_pos c1] at q
      by_cases c2 : nK many k = mxK k
      · rw [if_pos c2] at q; exact absurd q (by decide)
      · exact ⟨c1, c2⟩
    · rw [if_neg c1] at q; exact absurd q (by decide)
  · intro q
    unfold adR
    rw [if_pos q.1, if_neg q.2, (hM k hk).1, ← nI_succ]
    exact nI_pos' (by omega)
/-- all but the bodies -/
def Rst (σ τ : Sm) : Prop := τ.sizes = σ.sizes ∧ τ.items = σ.items ∧ τ.forms = σ.forms ∧ τ.settings = σ.settings ∧ τ.gone = σ.gone ∧ τ.latest = σ.latest ∧ τ.tray = σ.tray ∧ τ.trayMany = σ.trayMany ∧ τ.holds = σ.holds
theorem Rst.rf (σ : Sm) : Rst σ σ := ⟨rfl, rfl, rfl, rfl, rfl, rfl, rfl, rfl, rfl⟩
theorem Rst.trans {σ τ υ : Sm} (h : Rst σ τ) (g : Rst τ υ) : Rst σ υ := by
  obtain ⟨h1, h2, h3, h4, h5, h6, h7, h8, h9⟩ := h
  obtain ⟨g1, g2, g3, g4, g5, g6, g7, g8, g9⟩ := g
  exact ⟨g1.trans h1, g2.trans h2, g3.trans h3, g4.trans h4, g5.trans h5, g6.trans h6, g7.trans h7, g8.trans h8, g9.trans h9⟩
theorem addK_rst (σ : Sm) (k : Nat) (x y z : Int32) : Rst σ (addK σ k x y z).2 := by
  obtain ⟨-, -, -, e4, e5, e6, e7, e8, e9, e10, e11, e12⟩ := addK_ad σ k x y z
  exact ⟨e4, e5, e6, e7, e8, e9, e10, e11, e12⟩
theorem read_rel {k s : Nat} (hk : k < 2) : ∀ (f n : Nat) (σ : Sm), Mok σ.many → (readL k s f n σ).1 = (readX k (zK σ.sizes s) (fun i => σ.items (60 * s + i)) f n (σ.dir, σ.many)).1 ∧ (readL k s f n σ).2.dir = (readX k (zK σ.sizes s) (fun i => σ.items (60 * s + i)) f n (σ.dir, σ.many)).2.1 ∧ (readL k s f n σ).2.many = (readX k (zK σ.sizes s) (fun i => σ.items (60 * s + i)) f n (σ.dir, σ.many)).2.2 ∧ Rst σ (readL k s f n σ).2 := by
  intro f
  induction f with
  | zero => exact fun n σ _ => ⟨rfl, rfl, rfl, Rst.rf σ⟩
  | succ f ih =>
    intro n σ hM
    have ex : readX k (zK σ.sizes s) (fun i => σ.items (60 * s + i)) (f + 1) n (σ.dir, σ.many) = (if 3 * n + 3 ≤ zK σ.sizes s then (if adP σ.many k (σ.items (60 * s + 3 * n)) (σ.items (60 * s + 3 * n + 1)) (σ.items (60 * s + 3 * n + 2)) then readX k (zK σ.sizes s) (fun i => σ.items (60 * s + i)) f (n + 1) (adD σ.dir σ.many k (σ.items (60 * s + 3 * n)) (σ.items (60 * s + 3 * n + 1)) (σ.items (60 * s + 3 * n + 2)), adM σ.many k (σ.items (60 * s + 3 * n)) (σ.items (60 * s + 3 * n + 1)) (σ.items (60 * s + 3 * n + 2))) else (n, (σ.dir, σ.many))) else (n, (σ.dir, σ.many))) := readX_s k (zK σ.sizes s) (fun i => σ.items (60 * s + i)) f n (σ.dir, σ.many)
    rw [readL_s, ex]
    by_cases c1 : 3 * n + 3 ≤ zK σ.sizes s
    · rw [if_pos c1, if_pos c1]
      obtain ⟨e1, e2, e3, e4, e5, -⟩ := addK_ad σ k (σ.items (60 * s + 3 * n)) (σ.items (60 * s + 3 * n + 1)) (σ.items (60 * s + 3 * n + 2))
      have hr := addK_rst σ k (σ.items (60 * s + 3 * n)) (σ.items (60 * s + 3 * n + 1)) (σ.items (60 * s + 3 * n + 2))
      by_cases c2 : adP σ.many k (σ.items (60 * s + 3 * n)) (σ.items (60 * s + 3 * n + 1)) (σ.items (60 * s + 3 * n + 2))
      · have c3 : 0 ≤ (addK σ k (σ.items (60 * s + 3 * n)) (σ.items (60 * s + 3 * n + 1)) (σ.items (60 * s + 3 * n + 2))).1 := by rw [e3]; exact (adR_iff hM hk).mpr c2
        rw [if_pos c3, if_pos c2]
        have := ih (n + 1) (addK σ k (σ.items (60 * s + 3 * n)) (σ.items (60 * s + 3 * n + 1)) (σ.items (60 * s + 3 * n + 2))).2 (by rw [e2]; exact adM_ok hM hk)
        rw [e1, e2, e4, e5] at this
        obtain ⟨a1, a2, a3, a4⟩ := this
        exact ⟨a1, a2, a3, hr.trans a4⟩
      · have c3 : ¬ 0 ≤ (addK σ k (σ.items (60 * s + 3 * n)) (σ.items (60 * s + 3 * n + 1)) (σ.items (60 * s + 3 * n + 2))).1 := by rw [e3]; exact fun q => c2 ((adR_iff hM hk).mp q)
        rw [if_neg c3, if_neg c2]
        refine ⟨rfl, e1.trans ?_, e2.trans ?_, hr⟩
        · exact if_neg c2
        · exact if_neg c2
    · rw [if_neg c1, if_neg c1]
      exact ⟨rfl, rfl, rfl, Rst.rf σ⟩
