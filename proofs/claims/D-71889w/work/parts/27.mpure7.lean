/-! PURE WORDS: the digest -/
abbrev dg (h : Int64) (v : Int32) : Int64 := 31 * h + v.toInt64
def votesD (vt : Nat → Int32) (p n : Nat) (x : Int64) : Int64 := fz (fun i x => dg x (vt (12 * p + i))) n x
def skyP (st rk su fa vt : Nat → Int32) (n p : Nat) (x : Int64) : Int64 := votesD vt p n (dg (dg (dg (dg x (pick2 st rk p 0)) (pick2 st rk p 1)) (pick2 su fa p 0)) (pick2 su fa p 1))
def skyS (it : Int32) (pl many dir se : Nat → Int32) (i : Nat) (x : Int64) : Int64 :=
  dg (dg (dg (dg (dg (dg x (placeR it pl i 0)) (placeR it pl i 1)) (placeR it pl i 2)) (keyR many dir se 0 0 1 (nI i) 0)) (keyR many dir se 0 0 1 (nI i) 1)) (keyR many dir se 0 0 1 (nI i) 2)
def tellsF (many dir se st rk su fa vt pl : Nat → Int32) (it : Int32) (h : Int64) : Int64 := fz (fun i x => skyS it pl many dir se i x) (nK many 0) (fz (fun p x => skyP st rk su fa vt (nK many 0) p x) (nK many 1) h)
def cntS (k : Int32) (s : Sm × Int64) : Sm × Int64 := (findM s.1, dg s.2 (countV (findM s.1) k))
theorem cntS_eq (k : Int32) (σ : Sm) (h : Int64) (τ : Sm) (h' : Int64) (e : τ = findM σ) (eh : h' = dg h (countV τ k)) : cntS k (σ, h) = (τ, h') := by subst e; subst eh; rfl
def btS (k : Int32) (s : Sm × Int64) : Sm × Int64 := (betE s.1, dg s.2 (betR s.1 k))
theorem btS_eq (k : Int32) (σ : Sm) (h : Int64) (τ : Sm) (h' : Int64) (e : τ = betE σ) (eh : h' = dg h (betR σ k)) : btS k (σ, h) = (τ, h') := by subst e; subst eh; rfl
def spS (k : Int32) (s : Sm × Int64) : Sm × Int64 := (spaE s.1, dg s.2 (spaR s.1 k))
theorem spS_eq (k : Int32) (σ : Sm) (h : Int64) (τ : Sm) (h' : Int64) (e : τ = spaE σ) (eh : h' = dg h (spaR σ k)) : spS k (σ, h) = (τ, h') := by subst e; subst eh; rfl
def cntL : Nat → Nat → Sm × Int64 → Sm × Int64
  | 0, _, s => s
  | n + 1, k, s => cntL n (k + 1) (cntS (nI k) s)
def cnt8 (s : Sm × Int64) : Sm × Int64 := cntL 8 0 s
def btL : Nat → Nat → Sm × Int64 → Sm × Int64
  | 0, _, s => s
  | n + 1, k, s => btL n (k + 1) (btS (nI k) s)
def spL : Nat → Nat → Sm × Int64 → Sm × Int64
  | 0, _, s => s
  | n + 1, k, s => spL n (k + 1) (spS (nI k) s)
def midF (many dir se st rk su fa vt pl : Nat → Int32) (it x y : Int32) (h : Int64) : Int64 :=
  dg (dg (tellsF many dir se st rk su fa vt pl it (dg (dg (dg (dg h (looksR many x y 0)) (looksR many x y 1)) (looksR many x y 2)) (looksR many x y 3))) (turnV it)) (wrongF st su 8)
def midV (σ : Sm) (h : Int64) : Int64 := midF σ.many σ.dir σ.settings σ.starOf σ.rankOf σ.sure σ.far σ.votes σ.placeOf σ.isTurn σ.lookedAt σ.mats h
def four (s : Sm × Int64) : Sm × Int64 := spL 2 0 (btL 2 0 s)
def thgJ (tm tr : Nat → Int32) (q i n : Nat) (h : Int64) : Int64 := fz (fun j h => dg h (thingR tm tr (nI q) (nI i) (nI j))) n h
def thgI (tm tr : Nat → Int32) (q n : Nat) (h : Int64) : Int64 := fz (fun i h => dg (thgJ tm tr q i 4 h) (shareR tm tr (nI q) 0 (nI i))) n h
def thgQ (tm tr : Nat → Int32) (n : Nat) (h : Int64) : Int64 := fz (fun q h => thgI tm tr q 4 h) n h
def digM (σ : Sm) : Int64 × Sm := (thgQ σ.trayMany σ.tray 4 (four ((cnt8 (σ, 17)).1, midV (cnt8 (σ, 17)).1 (cnt8 (σ, 17)).2)).2, (four ((cnt8 (σ, 17)).1, midV (cnt8 (σ, 17)).1 (cnt8 (σ, 17)).2)).1)
theorem digM_eq (σ τ υ : Sm) (h1 h2 h3 : Int64) (e1 : cnt8 (σ, 17) = (τ, h1)) (e2 : midV τ h1 = h2) (e3 : four (τ, h2) = (υ, h3)) : digM σ = (thgQ σ.trayMany σ.tray 4 h3, υ) := by
  unfold digM
  rw [e1]
  show (thgQ σ.trayMany σ.tray 4 (four (τ, midV τ h1)).2, (four (τ, midV τ h1)).1) = _
  rw [e2, e3]
/-- what no finding changes -/
def Vis (σ τ : Sm) : Prop := τ.many = σ.many ∧ τ.dir = σ.dir ∧ τ.tray = σ.tray ∧ τ.trayMany = σ.trayMany ∧ τ.forms = σ.forms ∧ τ.sizes = σ.sizes ∧ τ.items = σ.items ∧ τ.latest = σ.latest ∧ τ.holds = σ.holds
theorem vis_rfl (σ : Sm) : Vis σ σ := ⟨rfl, rfl, rfl, rfl, rfl, rfl, rfl, rfl, rfl⟩
theorem vis_trans {σ τ υ : Sm} (h : Vis σ τ) (g : Vis τ υ) : Vis σ υ := by
  obtain ⟨a1, a2, a3, a4, a5, a6, a7, a8, a9⟩ := h
  obtain ⟨b1, b2, b3, b4, b5, b6, b7, b8, b9⟩ := g
  exact ⟨b1.trans a1, b2.trans a2, b3.trans a3, b4.trans a4, b5.trans a5, b6.trans a6, b7.trans a7, b8.trans a8, b9.trans a9⟩
theorem vis_find (σ : Sm) : Vis σ (findM σ) := ⟨findM_many _, findM_dir _, findM_tray _, findM_trayMany _, findM_forms _, findM_sizes _, findM_items _, findM_latest _, findM_holds _⟩
theorem vis_set (σ : Sm) (f : Nat → Int32) : Vis σ (σ.s_settings f) := by
  obtain ⟨x1, x2, x3, x4, x5, x6, x7, x8, x9, x10, x11, x12, x13, x14, x15, x16, x17, x18, x19, x20, x21, x22, x23, x24, x25, x26, x27, x28⟩ := σ
  exact ⟨rfl, rfl, rfl, rfl, rfl, rfl, rfl, rfl, rfl⟩
theorem vis_gone (σ : Sm) (f : Int32) : Vis σ (σ.s_gone f) := by
  obtain ⟨x1, x2, x3, x4, x5, x6, x7, x8, x9, x10, x11, x12, x13, x14, x15, x16, x17, x18, x19, x20, x21, x22, x23, x24, x25, x26, x27, x28⟩ := σ
  exact ⟨rfl, rfl, rfl, rfl, rfl, rfl, rfl, rfl, rfl⟩
theorem set_gone (σ : Sm) (f : Nat → Int32) : (σ.s_settings f).gone = σ.gone := by
  obtain ⟨x1, x2, x3, x4, x5, x6, x7, x8, x9, x10, x11, x12, x13, x14, x15, x16, x17, x18, x19, x20, x21, x22, x23, x24, x25, x26, x27, x28⟩ := σ
  rfl
theorem set_settings (σ : Sm) (f : Nat → Int32) : (σ.s_settings f).settings = f := by
  obtain ⟨x1, x2, x3, x4, x5, x6, x7, x8, x9, x10, x11, x12, x13, x14, x15, x16, x17, x18, x19, x20, x21, x22, x23, x24, x25, x26, x27, x28⟩ := σ
  rfl
theorem gone_settings (σ : Sm) (f : Int32) : (σ.s_gone f).settings = σ.settings := by
  obtain ⟨x1, x2, x3, x4, x5, x6, x7, x8, x9, x10, x11, x12, x13, x14, x15, x16, x17, x18, x19, x20, x21, x22, x23, x24, x25, x26, x27, x28⟩ := σ
  rfl
theorem gone_gone (σ : Sm) (f : Int32) : (σ.s_gone f).gone = f := by
  obtain ⟨x1, x2, x3, x4, x5, x6, x7, x8, x9, x10, x11, x12, x13, x14, x15, x16, x17, x18, x19, x20, x21, x22, x23, x24, x25, x26, x27, x28⟩ := σ
  rfl
theorem betS_1 (k : Nat) (s : BS) : ∃ τ, τ = s.1.s_settings (upd s.1.settings 1 (nI (50 * k))) ∧ (betS k s).1 = findM τ := ⟨_, rfl, rfl⟩
theorem spaS_1 (k : Nat) (s : BS) : ∃ τ, τ = s.1.s_gone (nI k) ∧ (spaS k s).1 = findM τ := ⟨_, rfl, rfl⟩
theorem betL_vis : ∀ (n k : Nat) (s : BS), Vis s.1 (betL n k s).1 ∧ (∀ x, upd (betL n k s).1.settings 1 x = upd s.1.settings 1 x) ∧ (betL n k s).1.gone = s.1.gone := by
  intro n
  induction n with
  | zero => exact fun k s => ⟨vis_rfl _, fun _ => rfl, rfl⟩
  | succ n ih =>
    intro k s
    obtain ⟨a, b, c⟩ := ih (k + 1) (betS k s)
    obtain ⟨τ, e, f⟩ := betS_1 k s
    have v : Vis s.1 (betS k s).1 := by rw [f, e]; exact vis_trans (vis_set _ _) (vis_find _)
    have w : (betS k s).1.settings = upd s.1.settings 1 (nI (50 * k)) := by rw [f, findM_settings, e, set_settings]
    have z : (betS k s).1.gone = s.1.gone := by rw [f, findM_gone, e, set_gone]
    show Vis s.1 (betL n (k + 1) (betS k s)).1 ∧ (∀ x, upd (betL n (k + 1) (betS k s)).1.settings 1 x = upd s.1.settings 1 x) ∧ (betL n (k + 1) (betS k s)).1.gone = s.1.gone
    refine ⟨vis_trans v a, fun x => ?_, c.trans z⟩
    rw [b, w]
    funext j
    show (if j = 1 then x else upd s.1.settings 1 (nI (50 * k)) j) = if j = 1 then x else s.1.settings j
    by_cases q : j = 1
    · rw [if_pos q, if_pos q]
    · rw [if_neg q, if_neg q]; simp [upd, q]
theorem spaL_vis : ∀ (n k : Nat) (s : BS), Vis s.1 (spaL n k s).1 ∧ (spaL n k s).1.settings = s.1.settings := by
  intro n
  induction n with
  | zero => exact fun k s => ⟨vis_rfl _, rfl⟩
  | succ n ih =>
    intro k s
    obtain ⟨a, b⟩ := ih (k + 1) (spaS k s)
    obtain ⟨τ, e, f⟩ := spaS_1 k s
    have v : Vis s.1 (spaS k s).1 := by rw [f, e]; exact vis_trans (vis_gone _ _) (vis_find _)
    have w : (spaS k s).1.settings = s.1.settings := by rw [f, findM_settings, e, gone_settings]
    show Vis s.1 (spaL n (k + 1) (spaS k s)).1 ∧ (spaL n (k + 1) (spaS k s)).1.settings = s.1.settings
    exact ⟨vis_trans v a, b.trans w⟩
theorem betE_1 (σ : Sm) : ∃ τ υ, τ = (betL 21 0 (σ, -1, -1)).1 ∧ υ = τ.s_settings (upd τ.settings 1 (σ.settings 1)) ∧ betE σ = findM υ := ⟨_, _, rfl, rfl, rfl⟩
theorem spaE_1 (σ : Sm) : ∃ τ υ, τ = (spaL (nK σ.many 1) 0 (σ, -1, -1)).1 ∧ υ = τ.s_gone (-1) ∧ spaE σ = findM υ := ⟨_, _, rfl, rfl, rfl⟩
theorem betE_vis (σ : Sm) : Vis σ (betE σ) ∧ (betE σ).settings = σ.settings ∧ (betE σ).gone = σ.gone := by
  obtain ⟨τ, υ, e1, e2, e3⟩ := betE_1 σ
  obtain ⟨a, b, c⟩ := betL_vis 21 0 (σ, -1, -1)
  rw [← e1] at a b c
  rw [e3, findM_settings, findM_gone]
  refine ⟨vis_trans a (by rw [e2]; exact vis_trans (vis_set _ _) (vis_find _)), ?_, by rw [e2, set_gone]; exact c⟩
  rw [e2, set_settings, b]
  funext j
  show (if j = 1 then σ.settings 1 else σ.settings j) = σ.settings j
  by_cases q : j = 1
  · rw [if_pos q, q]
  · rw [if_neg q]
theorem spaE_vis (σ : Sm) (hg : σ.gone = -1) : Vis σ (spaE σ) ∧ (spaE σ).settings = σ.settings ∧ (spaE σ).gone = σ.gone := by
  obtain ⟨τ, υ, e1, e2, e3⟩ := spaE_1 σ
  obtain ⟨a, b⟩ := spaL_vis (nK σ.many 1) 0 (σ, -1, -1)
  rw [← e1] at a b
  rw [e3, findM_settings, findM_gone]
  refine ⟨vis_trans a (by rw [e2]; exact vis_trans (vis_gone _ _) (vis_find _)), ?_, by rw [e2, gone_gone, hg]⟩
  rw [e2, gone_settings, b]
/-- all that finding, better, spare leave -/
def KP (σ τ : Sm) : Prop := Vis σ τ ∧ τ.settings = σ.settings ∧ τ.gone = σ.gone
theorem kp_rfl (σ : Sm) : KP σ σ := ⟨vis_rfl σ, rfl, rfl⟩
theorem kp_trans {σ τ υ : Sm} (h : KP σ τ) (g : KP τ υ) : KP σ υ := ⟨vis_trans h.1 g.1, g.2.1.trans h.2.1, g.2.2.trans h.2.2⟩
theorem kp_find (σ : Sm) : KP σ (findM σ) := ⟨vis_find σ, findM_settings σ, findM_gone σ⟩
theorem kp_bet (σ : Sm) : KP σ (betE σ) := betE_vis σ
theorem kp_spa (σ : Sm) (hg : σ.gone = -1) : KP σ (spaE σ) := spaE_vis σ hg
theorem findOk_kp {σ τ : Sm} (h : KP σ τ) (f : FindOk σ) : FindOk τ := by
  obtain ⟨⟨a1, a2, -⟩, b, -⟩ := h
  obtain ⟨f1, f2, f3⟩ := f
  exact ⟨by rw [a1]; exact f1, by rw [b]; exact f2, by rw [a2]; exact f3⟩
theorem thgJ_0 (tm tr : Nat → Int32) (q i : Nat) (h : Int64) : thgJ tm tr q i 0 h = h := rfl
theorem thgI_0 (tm tr : Nat → Int32) (q : Nat) (h : Int64) : thgI tm tr q 0 h = h := rfl
theorem thgQ_0 (tm tr : Nat → Int32) (h : Int64) : thgQ tm tr 0 h = h := rfl
theorem cntS_1 (k : Int32) (s : Sm × Int64) : ∃ τ, τ = findM s.1 ∧ (cntS k s).1 = τ := ⟨_, rfl, rfl⟩
theorem btS_1 (k : Int32) (s : Sm × Int64) : ∃ τ, τ = betE s.1 ∧ (btS k s).1 = τ := ⟨_, rfl, rfl⟩
theorem spS_1 (k : Int32) (s : Sm × Int64) : ∃ τ, τ = spaE s.1 ∧ (spS k s).1 = τ := ⟨_, rfl, rfl⟩
theorem cntL_kp : ∀ (n k : Nat) (s : Sm × Int64), KP s.1 (cntL n k s).1 := by
  intro n
  induction n with
  | zero => exact fun k s => kp_rfl _
  | succ n ih =>
    intro k s
    obtain ⟨τ, e, f⟩ := cntS_1 (nI k) s
    have v : KP s.1 (cntS (nI k) s).1 := by rw [f, e]; exact kp_find _
    exact kp_trans v (ih (k + 1) (cntS (nI k) s))
theorem btL_kp : ∀ (n k : Nat) (s : Sm × Int64), KP s.1 (btL n k s).1 := by
  intro n
  induction n with
  | zero => exact fun k s => kp_rfl _
  | succ n ih =>
    intro k s
    obtain ⟨τ, e, f⟩ := btS_1 (nI k) s
    have v : KP s.1 (btS (nI k) s).1 := by rw [f, e]; exact kp_bet _
    exact kp_trans v (ih (k + 1) (btS (nI k) s))
theorem spL_kp : ∀ (n k : Nat) (s : Sm × Int64), s.1.gone = -1 → KP s.1 (spL n k s).1 := by
  intro n
  induction n with
  | zero => exact fun k s _ => kp_rfl _
  | succ n ih =>
    intro k s hg
    obtain ⟨τ, e, f⟩ := spS_1 (nI k) s
    have v : KP s.1 (spS (nI k) s).1 := by rw [f, e]; exact kp_spa _ hg
    exact kp_trans v (ih (k + 1) (spS (nI k) s) (v.2.2.trans hg))
