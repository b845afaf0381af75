/-! PURE WORDS: what taking gives; what finding keeps; the readers of what was found -/
theorem noneF_at (f : Nat → Int32) (n p : Nat) (h : p < n) : noneF n f p = -1 := by
  induction n with
  | zero => omega
  | succ n ih =>
    show upd (noneF n f) n (-1) p = -1
    unfold upd
    split
    · rfl
    · exact ih (by omega)
def TkInv (s : TK) (k : Nat) : Prop := s.2.2.2 = nI k ∧ freeN s.1 8 + k = 8 ∧ (∀ p, p < 8 → s.1 p = -1 → s.2.1 p = -1) ∧ (∀ p, p < 8 → ¬ s.1 p = -1 → ∃ j i, j < k ∧ i < 12 ∧ s.2.1 p = nI j ∧ s.1 p = nI i) ∧ (∀ j, j < k → ∃ p, p < 8 ∧ s.2.1 p = nI j) ∧ (∀ p q, p < 8 → q < 8 → ¬ s.2.1 p = -1 → s.2.1 p = s.2.1 q → p = q)
theorem freeN_all {st : Nat → Int32} {n : Nat} (h : ∀ p, p < n → st p = -1) : freeN st n = n := by
  induction n with
  | zero => rfl
  | succ n ih => rw [freeN_s, if_pos (h n (by omega)), ih (fun p q => h p (by omega))]
theorem tkInv_0 (f g u : Nat → Int32) : TkInv (noneF 8 f, noneF 8 g, u, 0) 0 := by
  refine ⟨rfl, ?_, fun p h _ => noneF_at g 8 p h, fun p h q => absurd (noneF_at f 8 p h) q, fun j h => by omega, fun p q h _ n _ => absurd (noneF_at g 8 p h) n⟩
  rw [freeN_all (noneF_at f 8)]
theorem tkInv_s {s : TK} {k b : Nat} (h : TkInv s k) (hb : b < 96) (hf : s.1 (b / 12) = -1) : TkInv (asgF s b) (k + 1) := by
  obtain ⟨h1, h2, h3, h4, h5, h6⟩ := h
  have hp8 : b / 12 < 8 := by omega
  have hfr := (freeN_upd (st := s.1) (p := b / 12) (x := nI (b % 12)) (nI_nm1 (by omega)) 8).1 hp8 hf
  have hk : k < 8 := by omega
  have u1 : ∀ p, (asgF s b).1 p = if p = b / 12 then nI (b % 12) else s.1 p := fun p => rfl
  have u2 : ∀ p, (asgF s b).2.1 p = if p = b / 12 then s.2.2.2 else s.2.1 p := fun p => rfl
  refine ⟨?_, ?_, ?_, ?_, ?_, ?_⟩
  · show s.2.2.2 + 1 = _
    rw [h1]; exact nI_1 k
  · show freeN (upd s.1 (b / 12) (nI (b % 12))) 8 + (k + 1) = 8
    omega
  · intro p hp q
    rw [u1] at q; rw [u2]
    by_cases e : p = b / 12
    · rw [if_pos e] at q; exact absurd q (nI_nm1 (by omega))
    · rw [if_neg e] at q ⊢; exact h3 p hp q
  · intro p hp q
    rw [u1] at q; rw [u1, u2]
    by_cases e : p = b / 12
    · rw [if_pos e, if_pos e]; exact ⟨k, b % 12, by omega, by omega, h1, rfl⟩
    · rw [if_neg e] at q; rw [if_neg e, if_neg e]
      obtain ⟨j, i, a1, a2⟩ := h4 p hp q
      exact ⟨j, i, by omega, a2⟩
  · intro j hj
    by_cases e : j = k
    · exact ⟨b / 12, hp8, by rw [u2, if_pos rfl, h1, e]⟩
    · obtain ⟨p, a1, a2⟩ := h5 j (by omega)
      refine ⟨p, a1, ?_⟩
      rw [u2, if_neg ?_]
      · exact a2
      · intro e2
        have := h3 p a1 (by rw [e2]; exact hf)
        rw [a2] at this
        exact nI_nm1 (by omega) this
  · have lt : ∀ p, p < 8 → ¬ s.2.1 p = nI k := by
      intro p hp e
      by_cases z : s.1 p = -1
      · rw [h3 p hp z] at e; exact nI_nm1 (by omega) e.symm
      · obtain ⟨j, i, a1, -, a3, -⟩ := h4 p hp z
        have := (nI_eq (by omega) (by omega)).mp (a3.symm.trans e)
        omega
    intro p q hp hq n e
    rw [u2, u2] at e; rw [u2] at n
    by_cases e1 : p = b / 12
    · by_cases e2 : q = b / 12
      · rw [e1, e2]
      · rw [if_pos e1, if_neg e2, h1] at e
        exact absurd e.symm (lt q hq)
    · by_cases e2 : q = b / 12
      · rw [if_neg e1, if_pos e2, h1] at e
        exact absurd e (lt p hp)
      · rw [if_neg e1, if_neg e2] at e; rw [if_neg e1] at n
        exact h6 p q hp hq n e
theorem takesL_inv (v : Nat → Int32) (few : Int32) : ∀ (f : Nat) (s : TK) (k : Nat), TkInv s k → ∃ k2, TkInv (takesL v few f s) k2 := by
  intro f
  induction f with
  | zero => exact fun s k h => ⟨k, h⟩
  | succ f ih =>
    intro s k h
    rw [takesL_s]
    by_cases e : bestF v few s.1 s.2.2.1 96 = -1
    · rw [if_pos e]; exact ⟨k, h⟩
    · rw [if_neg e]
      have hb := bestF_nat (Nat.le_refl _) e
      exact ih _ (k + 1) (tkInv_s h hb.2.1 hb.2.2.1)
theorem spotF_at {rk : Nat → Int32} {x : Int32} {p : Nat} (hx : rk p = x) : ∀ n, (∀ q, q < n → rk q = x → q = p) → p < n → spotF rk x n = nI p := by
  intro n
  induction n with
  | zero => intro _ h; omega
  | succ n ih =>
    intro hu hp
    show (if rk n = x then nI n else spotF rk x n) = nI p
    by_cases e : rk n = x
    · rw [if_pos e, hu n (by omega) e]
    · rw [if_neg e]
      exact ih (fun q hq => hu q (by omega)) (by rcases Nat.lt_or_ge p n with h | h; exact h; exact absurd (show rk n = x by rw [show n = p by omega]; exact hx) e)
theorem takOk {s : TK} {k : Nat} (h : TkInv s k) : TakOk s.1 s.2.1 s.2.2.2 := by
  obtain ⟨h1, h2, h3, h4, h5, h6⟩ := h
  intro hp
  have hk : 2 ≤ k := by
    rcases Nat.lt_or_ge k 2 with q | q
    · exact absurd (by rw [h1]; exact (nI_leI (by omega) (by omega : 1 < 2 ^ 31)).mpr (by omega)) hp
    · exact q
  obtain ⟨x, hx, ex⟩ := h5 0 (by omega)
  obtain ⟨y, hy, ey⟩ := h5 1 (by omega)
  have sx : ¬ s.1 x = -1 := fun q => by have := h3 x hx q; rw [ex] at this; exact nI_nm1 (by omega) this
  have sy : ¬ s.1 y = -1 := fun q => by have := h3 y hy q; rw [ey] at this; exact nI_nm1 (by omega) this
  obtain ⟨_, i, -, hi, -, ei⟩ := h4 x hx sx
  obtain ⟨_, j, -, hj, -, ej⟩ := h4 y hy sy
  exact ⟨x, y, i, j, hx, hy, hi, hj, spotF_at ex 8 (fun q hq e => (h6 q x hq hx (by rw [e]; exact nI_nm1 (n := 0) (by omega)) (e.trans ex.symm))) hx, spotF_at ey 8 (fun q hq e => (h6 q y hq hy (by rw [e]; exact nI_nm1 (n := 1) (by omega)) (e.trans ey.symm))) hy, ei, ej⟩
theorem takesF_ok (v : Nat → Int32) (few : Int32) (s : TK) : TakOk (takesF v few s).1 (takesF v few s).2.1 (takesF v few s).2.2.2 := by
  obtain ⟨k, h⟩ := takesL_inv v few 8 _ 0 (tkInv_0 s.1 s.2.1 (zerosF 12 s.2.2.1))
  exact takOk h
/-- what finding asks -/
def FindOk (σ : Sm) : Prop := Mok σ.many ∧ ¬ σ.settings 0 = 0 ∧ ArmOk σ.dir
theorem findG_forms (σ : Sm) (v : VS) (k : TK) (n : TN) (c : CF) : (findG σ v k n c).forms = σ.forms := rfl
theorem findM_forms (σ : Sm) : (findM σ).forms = σ.forms := (congrArg Sm.forms (findM_eq σ _ rfl _ rfl _ rfl _ rfl)).trans (findG_forms σ _ _ _ _)
theorem findG_sizes (σ : Sm) (v : VS) (k : TK) (n : TN) (c : CF) : (findG σ v k n c).sizes = σ.sizes := rfl
theorem findM_sizes (σ : Sm) : (findM σ).sizes = σ.sizes := (congrArg Sm.sizes (findM_eq σ _ rfl _ rfl _ rfl _ rfl)).trans (findG_sizes σ _ _ _ _)
theorem findG_items (σ : Sm) (v : VS) (k : TK) (n : TN) (c : CF) : (findG σ v k n c).items = σ.items := rfl
theorem findM_items (σ : Sm) : (findM σ).items = σ.items := (congrArg Sm.items (findM_eq σ _ rfl _ rfl _ rfl _ rfl)).trans (findG_items σ _ _ _ _)
theorem findG_moved (σ : Sm) (v : VS) (k : TK) (n : TN) (c : CF) : (findG σ v k n c).moved = σ.moved := rfl
theorem findM_moved (σ : Sm) : (findM σ).moved = σ.moved := (congrArg Sm.moved (findM_eq σ _ rfl _ rfl _ rfl _ rfl)).trans (findG_moved σ _ _ _ _)
theorem findG_latest (σ : Sm) (v : VS) (k : TK) (n : TN) (c : CF) : (findG σ v k n c).latest = σ.latest := rfl
theorem findM_latest (σ : Sm) : (findM σ).latest = σ.latest := (congrArg Sm.latest (findM_eq σ _ rfl _ rfl _ rfl _ rfl)).trans (findG_latest σ _ _ _ _)
theorem findG_dir (σ : Sm) (v : VS) (k : TK) (n : TN) (c : CF) : (findG σ v k n c).dir = σ.dir := rfl
theorem findM_dir (σ : Sm) : (findM σ).dir = σ.dir := (congrArg Sm.dir (findM_eq σ _ rfl _ rfl _ rfl _ rfl)).trans (findG_dir σ _ _ _ _)
theorem findG_many (σ : Sm) (v : VS) (k : TK) (n : TN) (c : CF) : (findG σ v k n c).many = σ.many := rfl
theorem findM_many (σ : Sm) : (findM σ).many = σ.many := (congrArg Sm.many (findM_eq σ _ rfl _ rfl _ rfl _ rfl)).trans (findG_many σ _ _ _ _)
theorem findG_settings (σ : Sm) (v : VS) (k : TK) (n : TN) (c : CF) : (findG σ v k n c).settings = σ.settings := rfl
theorem findM_settings (σ : Sm) : (findM σ).settings = σ.settings := (congrArg Sm.settings (findM_eq σ _ rfl _ rfl _ rfl _ rfl)).trans (findG_settings σ _ _ _ _)
theorem findG_drawn (σ : Sm) (v : VS) (k : TK) (n : TN) (c : CF) : (findG σ v k n c).drawn = σ.drawn := rfl
theorem findM_drawn (σ : Sm) : (findM σ).drawn = σ.drawn := (congrArg Sm.drawn (findM_eq σ _ rfl _ rfl _ rfl _ rfl)).trans (findG_drawn σ _ _ _ _)
theorem findG_gone (σ : Sm) (v : VS) (k : TK) (n : TN) (c : CF) : (findG σ v k n c).gone = σ.gone := rfl
theorem findM_gone (σ : Sm) : (findM σ).gone = σ.gone := (congrArg Sm.gone (findM_eq σ _ rfl _ rfl _ rfl _ rfl)).trans (findG_gone σ _ _ _ _)
theorem findG_tray (σ : Sm) (v : VS) (k : TK) (n : TN) (c : CF) : (findG σ v k n c).tray = σ.tray := rfl
theorem findM_tray (σ : Sm) : (findM σ).tray = σ.tray := (congrArg Sm.tray (findM_eq σ _ rfl _ rfl _ rfl _ rfl)).trans (findG_tray σ _ _ _ _)
theorem findG_trayMany (σ : Sm) (v : VS) (k : TK) (n : TN) (c : CF) : (findG σ v k n c).trayMany = σ.trayMany := rfl
theorem findM_trayMany (σ : Sm) : (findM σ).trayMany = σ.trayMany := (congrArg Sm.trayMany (findM_eq σ _ rfl _ rfl _ rfl _ rfl)).trans (findG_trayMany σ _ _ _ _)
theorem findG_holds (σ : Sm) (v : VS) (k : TK) (n : TN) (c : CF) : (findG σ v k n c).holds = σ.holds := rfl
theorem findM_holds (σ : Sm) : (findM σ).holds = σ.holds := (congrArg Sm.holds (findM_eq σ _ rfl _ rfl _ rfl _ rfl)).trans (findG_holds σ _ _ _ _)
def looksR (many : Nat → Int32) (x y w : Int32) : Int32 := if w = 0 then threeF (many 0) else if w = 1 then threeF (many 1) else if w = 2 then x else y
def looksV (σ : Sm) (w : Int32) : Int32 := if rng w 0 3 then looksR σ.many σ.lookedAt σ.mats w else -2
def votesV (σ : Sm) (x y : Int32) : Int32 := if thP σ.many 1 x then (if thP σ.many 0 y then σ.votes (12 * x.toNatClampNeg + y.toNatClampNeg) else -2) else -2
def pick2 (f g : Nat → Int32) (p : Nat) (w : Int32) : Int32 := if w = 0 then f p else g p
def takenV (σ : Sm) (x w : Int32) : Int32 := if thP σ.many 1 x then (if rng w 0 1 then pick2 σ.starOf σ.rankOf x.toNatClampNeg w else -2) else -2
def turnV (it : Int32) : Int32 := if it = 0 then 0 else 1
def placeR (it : Int32) (f : Nat → Int32) (i u : Nat) : Int32 := if it = 0 then -2147483648 else f (3 * i + u)
def placeV (σ : Sm) (x w : Int32) : Int32 := if thP σ.many 0 x then (if rng w 0 2 then placeR σ.isTurn σ.placeOf x.toNatClampNeg w.toNatClampNeg else -2147483648) else -2147483648
def confirmedV (σ : Sm) (x w : Int32) : Int32 := if thP σ.many 1 x then (if rng w 0 1 then pick2 σ.sure σ.far x.toNatClampNeg w else -2) else -2
def wrongS (st su : Nat → Int32) (p : Nat) (b : Int32) : Int32 := if st p = -1 then b ||| 0 else if st p = su p then b ||| 0 else b ||| (1 <<< (nI p &&& 31))
def wrongF (st su : Nat → Int32) (n : Nat) : Int32 := fz (fun p b => wrongS st su p b) n 0
