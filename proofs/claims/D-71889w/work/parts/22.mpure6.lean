/-! PURE WORDS: trays, better, spare, counts -/
def Tok (f : Nat → Int32) : Prop := ∀ k, k < 4 → f k = nI (zK f k) ∧ zK f k ≤ 8
def putD (σ : Sm) (t k i : Nat) : Int32 × Sm := (upd σ.trayMany t (σ.trayMany t + 1) t, (σ.s_tray (upd (upd (upd (upd σ.tray (32 * t + 4 * zK σ.trayMany t) (nI k)) (32 * t + 4 * zK σ.trayMany t + 1 + 0) (σ.dir (36 * k + 3 * i + 0))) (32 * t + 4 * zK σ.trayMany t + 1 + 1) (σ.dir (36 * k + 3 * i + 1))) (32 * t + 4 * zK σ.trayMany t + 1 + 2) (σ.dir (36 * k + 3 * i + 2)))).s_trayMany (upd σ.trayMany t (σ.trayMany t + 1)))
def putK (σ : Sm) (t k i : Nat) : Int32 × Sm := if zK σ.trayMany t = 8 then (-4, σ) else if 2 ≤ σ.holds t then putD σ t k i else if σ.holds t = nI k then putD σ t k i else (-10 - 4, σ.s_latest 4)
def putM (σ : Sm) (t kind i : Int32) : Int32 × Sm := if rng t 0 3 then (if thP σ.many kind i then putK σ t.toNatClampNeg kind.toNatClampNeg i.toNatClampNeg else (-2, σ)) else (-2, σ)
def forkF (x y n : Nat) (f : Nat → Int32) : Nat → Int32 := fz (fun k g => upd g (32 * y + k) (g (32 * x + k))) n f
def forkK (σ : Sm) (x y : Nat) : Int32 × Sm := (upd σ.trayMany y (σ.trayMany x) y, ((σ.s_tray (forkF x y 32 σ.tray)).s_trayMany (upd σ.trayMany y (σ.trayMany x))).s_holds (upd σ.holds y (σ.holds x)))
def forkM (σ : Sm) (x y : Int32) : Int32 × Sm := if rng x 0 3 then (if rng y 0 3 then forkK σ x.toNatClampNeg y.toNatClampNeg else (-2, σ)) else (-2, σ)
def takeK (σ : Sm) (t : Nat) : Int32 × Sm := if σ.trayMany t = 0 then (-3, σ) else (upd σ.trayMany t (σ.trayMany t - 1) t, σ.s_trayMany (upd σ.trayMany t (σ.trayMany t - 1)))
def takeM (σ : Sm) (t : Int32) : Int32 × Sm := if rng t 0 3 then takeK σ t.toNatClampNeg else (-2, σ)
abbrev thgP (f : Nat → Int32) (t i : Int32) : Prop := rng t 0 3 ∧ 0 ≤ i.toInt ∧ i.toInt < (zK f t.toNatClampNeg : Int)
theorem thgP_ex {f : Nat → Int32} (hT : Tok f) {t i : Int32} (h : thgP f t i) : ∃ k j : Nat, k < 4 ∧ j < 8 ∧ j < zK f k ∧ t = nI k ∧ i = nI j := by
  obtain ⟨e1, e2⟩ := nat_of h.1.1
  obtain ⟨e3, e4⟩ := nat_of h.2.1
  have hk : t.toNatClampNeg < 4 := by have := h.1.2; omega
  have := h.2.2
  have := (hT _ hk).2
  exact ⟨t.toNatClampNeg, i.toNatClampNeg, hk, by omega, by omega, e1, e3⟩
theorem thgP_ex2 {f : Nat → Int32} (hT : Tok f) {k : Nat} (hk : k < 4) {i : Int32} (h : thgP f (nI k) i) : ∃ j : Nat, j < 8 ∧ j < zK f k ∧ i = nI j := by
  have h2 := h.2
  rw [tn_nI (by omega)] at h2
  obtain ⟨j, a, b⟩ := nat_lt h2.1 h2.2
  have := (hT k hk).2
  exact ⟨j, by omega, a, b⟩
def thingR (tm tray : Nat → Int32) (t i w : Int32) : Int32 := if thgP tm t i then (if rng w 0 3 then tray (32 * t.toNatClampNeg + 4 * i.toNatClampNeg + w.toNatClampNeg) else -2147483648) else -2147483648
def prodF (f : Nat → Int32) (P Q : Nat) : Int32 := 0 + f (P + 1) * f (Q + 1) + f (P + 2) * f (Q + 2) + f (P + 3) * f (Q + 3)
/-- better: over tolerances, from k on -/
abbrev BS : Type := Sm × Int32 × Int32
def betS (k : Nat) (s : BS) : BS := (findM (s.1.s_settings (upd s.1.settings 1 (nI (50 * k)))), if (findM (s.1.s_settings (upd s.1.settings 1 (nI (50 * k))))).manySure ≤ s.2.2 then s.2.1 else nI (50 * k), greF (findM (s.1.s_settings (upd s.1.settings 1 (nI (50 * k))))).manySure s.2.2)
def betL : Nat → Nat → BS → BS
  | 0, _, s => s
  | n + 1, k, s => betL n (k + 1) (betS k s)
def spaS (k : Nat) (s : BS) : BS := (findM (s.1.s_gone (nI k)), if (findM (s.1.s_gone (nI k))).manySure ≤ s.2.2 then s.2.1 else nI k, greF (findM (s.1.s_gone (nI k))).manySure s.2.2)
def spaL : Nat → Nat → BS → BS
  | 0, _, s => s
  | n + 1, k, s => spaL n (k + 1) (spaS k s)
def betE (σ : Sm) : Sm := findM ((betL 21 0 (σ, -1, -1)).1.s_settings (upd (betL 21 0 (σ, -1, -1)).1.settings 1 (σ.settings 1)))
def betR (σ : Sm) (w : Int32) : Int32 := if w = 0 then (betL 21 0 (σ, -1, -1)).2.1 else (betL 21 0 (σ, -1, -1)).2.2
def spaE (σ : Sm) : Sm := findM ((spaL (nK σ.many 1) 0 (σ, -1, -1)).1.s_gone (-1))
def spaR (σ : Sm) (w : Int32) : Int32 := if w = 0 then (spaL (nK σ.many 1) 0 (σ, -1, -1)).2.1 else (spaL (nK σ.many 1) 0 (σ, -1, -1)).2.2
def betterM (σ : Sm) (w : Int32) : Int32 × Sm := if rng w 0 1 then (betR σ w, betE σ) else (-2, σ)
def spareM (σ : Sm) (w : Int32) : Int32 × Sm := if rng w 0 1 then (spaR σ w, spaE σ) else (-2, σ)
def isInF (b : Int32) (p : Nat) : Int32 := if ((b >>> (nI p &&& 31)) &&& 1) = 1 then 1 else 0
def onesF (b : Int32) (n : Nat) : Int32 := fz (fun p k => if ((b >>> (nI p &&& 31)) &&& 1) = 1 then k + 1 else k + 0) n 0
def thingsF (f : Nat → Int32) : Int32 := f 0 + f 1 + f 2 + f 3
def countV (σ : Sm) (w : Int32) : Int32 :=
  if w = 0 then σ.many 0 else if w = 1 then σ.many 1 else if w = 2 then σ.pairs else if w = 3 then σ.manySure else if w = 4 then 3 * σ.mats else if w = 5 then σ.settings 1 else
  if w = 6 then thingsF σ.trayMany else if w = 7 then onesF (wrongF σ.starOf σ.sure 8) 8 else if w = 8 then σ.latest else -2
def writeF (s : Nat) (form : Int32) (su : Nat → Int32) (n : Nat) (f : Nat → Int32) : Nat → Int32 := fz (fun p g => upd g (60 * s + p) (cutF form (su p))) n f
def writeD (σ : Sm) (s : Nat) : Sm := σ.s_items (writeF s (σ.forms s) σ.sure (min (zK σ.sizes s) (nK σ.many 1)) σ.items)
def writeK (σ : Sm) (s : Nat) : Int32 × Sm := if 0 ≤ σ.forms s then (nI (min (zK σ.sizes s) (nK σ.many 1)), writeD (findM σ) s) else (-10 - 1, σ.s_latest 1)
def writeM (σ : Sm) (s : Int32) : Int32 × Sm := if rng s 0 3 then writeK σ s.toNatClampNeg else (-2, σ)
theorem iinc_K {x : Int32} {i n : Nat} {z : Int} (h : x = nI i) (hz : Int32.ofInt z = nI n) : x + Int32.ofInt z = nI (i + n) := by rw [h, hz, nI_add]
theorem sw_9 (x : Int32) : (x.toInt < 0 ∨ 8 < x.toInt) ∨ x = 0 ∨ x = 1 ∨ x = 2 ∨ x = 3 ∨ x = 4 ∨ x = 5 ∨ x = 6 ∨ x = 7 ∨ x = 8 := by
  rcases Int.lt_or_le x.toInt 0 with h | h
  · exact Or.inl (Or.inl h)
  · rcases Int.lt_or_le 8 x.toInt with h2 | h2
    · exact Or.inl (Or.inr h2)
    · obtain ⟨j, hj, rfl⟩ := rng_ex (n := 8) ⟨h, h2⟩
      refine Or.inr ?_
      match j, hj with
      | 0, _ => exact Or.inl rfl
      | 1, _ => exact Or.inr (Or.inl rfl)
      | 2, _ => exact Or.inr (Or.inr (Or.inl rfl))
      | 3, _ => exact Or.inr (Or.inr (Or.inr (Or.inl rfl)))
      | 4, _ => exact Or.inr (Or.inr (Or.inr (Or.inr (Or.inl rfl))))
      | 5, _ => exact Or.inr (Or.inr (Or.inr (Or.inr (Or.inr (Or.inl rfl)))))
      | 6, _ => exact Or.inr (Or.inr (Or.inr (Or.inr (Or.inr (Or.inr (Or.inl rfl))))))
      | 7, _ => exact Or.inr (Or.inr (Or.inr (Or.inr (Or.inr (Or.inr (Or.inr (Or.inl rfl)))))))
      | 8, _ => exact Or.inr (Or.inr (Or.inr (Or.inr (Or.inr (Or.inr (Or.inr (Or.inr rfl)))))))
theorem betS_eq (k : Nat) (σ : Sm) (b m : Int32) (τ : Sm) (h : τ = findM (σ.s_settings (upd σ.settings 1 (nI (50 * k))))) : betS k (σ, b, m) = (τ, if τ.manySure ≤ m then b else nI (50 * k), greF τ.manySure m) := by subst h; rfl
theorem spaS_eq (k : Nat) (σ : Sm) (b m : Int32) (τ : Sm) (h : τ = findM (σ.s_gone (nI k))) : spaS k (σ, b, m) = (τ, if τ.manySure ≤ m then b else nI k, greF τ.manySure m) := by subst h; rfl
theorem findOk_set {σ : Sm} (h : FindOk σ) (x : Int32) : FindOk (σ.s_settings (upd σ.settings 1 x)) := ⟨h.1, by show ¬ upd σ.settings 1 x 0 = 0; simpa [upd] using h.2.1, h.2.2⟩
theorem findOk_gone {σ : Sm} (h : FindOk σ) (x : Int32) : FindOk (σ.s_gone x) := ⟨h.1, h.2.1, h.2.2⟩
theorem findOk_M {σ : Sm} (h : FindOk σ) : FindOk (findM σ) := ⟨by rw [findM_many]; exact h.1, by rw [findM_settings]; exact h.2.1, by rw [findM_dir]; exact h.2.2⟩
theorem betL_ok : ∀ (n k : Nat) (s : BS), FindOk s.1 → FindOk (betL n k s).1 := by
  intro n
  induction n with
  | zero => exact fun k s h => h
  | succ n ih => exact fun k s h => ih (k + 1) (betS k s) (findOk_M (findOk_set h _))
theorem spaL_ok : ∀ (n k : Nat) (s : BS), FindOk s.1 → FindOk (spaL n k s).1 := by
  intro n
  induction n with
  | zero => exact fun k s h => h
  | succ n ih => exact fun k s h => ih (k + 1) (spaS k s) (findOk_M (findOk_gone h _))
theorem spaL_many : ∀ (n k : Nat) (s : BS), (spaL n k s).1.many = s.1.many := by
  intro n
  induction n with
  | zero => exact fun k s => rfl
  | succ n ih => exact fun k s => (ih (k + 1) (spaS k s)).trans (findM_many _)
