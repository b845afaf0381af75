/-! PURE WORDS of the tracker: what is seen of a solution -/
/-- alike in all that is seen -/
def VisX (n0 n1 : Nat) (s u : SX) : Prop := s.1.1 = u.1.1 ∧ s.1.2.1 = u.1.2.1 ∧ (∀ j, j < 96 → s.1.2.2 j = u.1.2.2 j) ∧ (∀ p, p < 8 → s.2.1.1 p = u.2.1.1 p) ∧ (∀ p, p < 8 → s.2.1.2.1 p = u.2.1.2.1 p) ∧ s.2.1.2.2.2 = u.2.1.2.2.2 ∧ s.2.2.1.1 = u.2.2.1.1 ∧ (¬ u.2.2.1.1 = 0 → ∀ j, j < 3 * n0 → s.2.2.1.2.2.2 j = u.2.2.1.2.2.2 j) ∧ (∀ p, p < n1 → s.2.2.2.2.1 p = u.2.2.2.2.1 p) ∧ (∀ p, p < n1 → s.2.2.2.2.2 p = u.2.2.2.2.2 p)
def sx0 : SX := ((0, 0, fun _ => 0), (fun _ => 0, fun _ => 0, fun _ => 0, 0), (0, fun _ => 0, fun _ => 0, fun _ => 0), (fun _ => 0, fun _ => 0, fun _ => 0))
/-- the answer: what solving finds, from nothing -/
def ansX (d many se : Nat → Int32) (tol g : Int32) : SX := solX d se tol g (nK many 0) (nK many 1) sx0
def RdyX (d many se : Nat → Int32) (g : Int32) (s : SX) : Prop := VisX (nK many 0) (nK many 1) s (ansX d many se (se 1) g)
/-- solved, or to be solved anew -/
def HavX (d many se : Nat → Int32) (v g : Int32) (s : SX) : Prop := v = 0 ∨ (v = 1 ∧ RdyX d many se g s)
theorem it01 (d many se : Nat → Int32) (tol g : Int32) : (ansX d many se tol g).2.2.1.1 = 0 ∨ (ansX d many se tol g).2.2.1.1 = 1 := by
  show (trnT _ _ _ _ _ _).1 = 0 ∨ (trnT _ _ _ _ _ _).1 = 1
  unfold trnT trnX trn2
  split
  · exact Or.inl rfl
  · split
    · split
      · exact Or.inr rfl
      · exact Or.inl rfl
    · exact Or.inl rfl
theorem nar01 {x : Int32} (h : x = 0 ∨ x = 1) : narrow .boolean (.int x) = .int x := by
  rcases h with rfl | rfl <;> rfl
/-- how many are confirmed -/
def cnfN (su : Nat → Int32) (n : Nat) : Int32 := fz (fun p k => if su p = -1 then k + 0 else k + 1) n 0
theorem cnfN_s (su : Nat → Int32) (n : Nat) : cnfN su (n + 1) = if su n = -1 then cnfN su n + 0 else cnfN su n + 1 := rfl
theorem cnfN_0 (su : Nat → Int32) : cnfN su 0 = 0 := rfl
theorem cnfN_c {f g : Nat → Int32} {n : Nat} (h : ∀ p, p < n → f p = g p) : cnfN f n = cnfN g n := by
  induction n with
  | zero => rfl
  | succ n ih => rw [cnfN_s, cnfN_s, ih (fun p hp => h p (by omega)), h n (by omega)]
def wrgX (st su : Nat → Int32) (n : Nat) : Int32 := fz (fun p b => wrongS st su p b) n 0
theorem wrgX_s (st su : Nat → Int32) (n : Nat) : wrgX st su (n + 1) = wrongS st su n (wrgX st su n) := rfl
theorem wrgX_0 (st su : Nat → Int32) : wrgX st su 0 = 0 := rfl
theorem wrgX_c {f g f' g' : Nat → Int32} {n : Nat} (h : ∀ p, p < n → f p = f' p) (h' : ∀ p, p < n → g p = g' p) : wrgX f g n = wrgX f' g' n := by
  induction n with
  | zero => rfl
  | succ n ih =>
    rw [wrgX_s, wrgX_s, ih (fun p hp => h p (by omega)) (fun p hp => h' p (by omega))]
    unfold wrongS
    rw [h n (by omega), h' n (by omega)]
/-- better: over tolerances; spare: over spots -/
def btX (d many se : Nat → Int32) (g : Int32) (k : Nat) (s : Int32 × Int32) : Int32 × Int32 :=
  (if cnfN (ansX d many se (50 * nI k) g).2.2.2.2.1 (nK many 1) ≤ s.2 then s.1 else 50 * nI k, maxX s.2 (cnfN (ansX d many se (50 * nI k) g).2.2.2.2.1 (nK many 1)))
def betX (d many se : Nat → Int32) (g : Int32) (n : Nat) : Int32 × Int32 := fz (fun k s => btX d many se g k s) n (-1, -1)
theorem betX_s (d many se : Nat → Int32) (g : Int32) (n : Nat) : betX d many se g (n + 1) = btX d many se g n (betX d many se g n) := rfl
theorem betX_0 (d many se : Nat → Int32) (g : Int32) : betX d many se g 0 = (-1, -1) := rfl
def spX (d many se : Nat → Int32) (k : Nat) (s : Int32 × Int32) : Int32 × Int32 :=
  (if cnfN (ansX d many se (se 1) (nI k)).2.2.2.2.1 (nK many 1) ≤ s.2 then s.1 else nI k, maxX s.2 (cnfN (ansX d many se (se 1) (nI k)).2.2.2.2.1 (nK many 1)))
def spaX (d many se : Nat → Int32) (n : Nat) : Int32 × Int32 := fz (fun k s => spX d many se k s) n (-1, -1)
theorem spaX_s (d many se : Nat → Int32) (n : Nat) : spaX d many se (n + 1) = spX d many se n (spaX d many se n) := rfl
theorem spaX_0 (d many se : Nat → Int32) : spaX d many se 0 = (-1, -1) := rfl
def two2 (s : Int32 × Int32) (w : Int32) : Int32 := if w = 0 then s.1 else s.2
theorem thP1 {f : Nat → Int32} {x : Int32} (h : thP f 1 x) : ∃ j : Nat, j < nK f 1 ∧ x = nI j := nat_lt h.2.1 h.2.2
theorem thP0 {f : Nat → Int32} {x : Int32} (h : thP f 0 x) : ∃ j : Nat, j < nK f 0 ∧ x = nI j := nat_lt h.2.1 h.2.2
/-- ones of a set, from the low end -/
def on8 : Nat → Nat → Int32 → Int32
  | 0, _, s => s
  | f + 1, k, s => if k = 0 then s else on8 f (k / 2) (s + nI (k % 2))
theorem on8_0 (f : Nat) (s : Int32) : on8 f 0 s = s := by cases f <;> rfl
theorem on8_s {f k : Nat} {s : Int32} (h : ¬ k = 0) : on8 (f + 1) k s = on8 f (k / 2) (s + nI (k % 2)) := by show (if k = 0 then s else _) = _; rw [if_neg h]
theorem wrgX_nat (st su : Nat → Int32) : ∀ n, n ≤ 8 → ∃ k, k < 2 ^ n ∧ wrgX st su n = nI k := by
  intro n
  induction n with
  | zero => exact fun _ => ⟨0, by decide, rfl⟩
  | succ n ih =>
    intro hn
    obtain ⟨k, hk, e⟩ := ih (by omega)
    have key : ∀ n, n < 8 → ∀ k, k < 2 ^ n → nI k ||| (1 <<< (nI n &&& 31)) = nI (k + 2 ^ n) := by decide +kernel
    have z : nI k ||| 0 = nI k := by simp
    have p2 : 2 ^ (n + 1) = 2 ^ n + 2 ^ n := by rw [Nat.pow_succ]; omega
    rw [wrgX_s]
    unfold wrongS
    split
    · exact ⟨k, by omega, by rw [e, z]⟩
    · split
      · exact ⟨k, by omega, by rw [e, z]⟩
      · exact ⟨k + 2 ^ n, by omega, by rw [e, key n (by omega) k hk]⟩
theorem and_1 {k : Nat} (h : k < 256) : nI k &&& 1 = nI (k % 2) := pk_andN (n := k) (by omega) (m := 1) 1 (by decide)
theorem shr_1 {k : Nat} (h : k < 256) : ((nI k).toUInt32 >>> ((1 : Int32).toUInt32 &&& Int32.toUInt32 31)).toInt32 = nI (k / 2) := pk_ushrN (n := k) (by omega) 1 1 (by decide)
def allL (f : Nat → Int32) : Int32 := 0 + f 0 + f 1 + f 2 + f 3
/-- counts -/
def cntX (d many se : Nat → Int32) (g fi : Int32) (lm : Nat → Int32) (w : Int32) : Int32 :=
  if w = 0 then many 0 else if w = 1 then many 1 else if w = 2 then (ansX d many se (se 1) g).2.1.2.2.2 else if w = 3 then cnfN (ansX d many se (se 1) g).2.2.2.2.1 (nK many 1) else if w = 4 then 3 * (ansX d many se (se 1) g).1.2.1 else if w = 5 then se 1 else
  if w = 6 then allL lm else if w = 7 then on8 8 (wrgX (ansX d many se (se 1) g).2.1.1 (ansX d many se (se 1) g).2.2.2.2.1 (nK many 1)).toNatClampNeg 0 else if w = 8 then fi else -2
theorem sw_9x (w : Int32) : (¬ w = 0 ∧ ¬ w = 1 ∧ ¬ w = 2 ∧ ¬ w = 3 ∧ ¬ w = 4 ∧ ¬ w = 5 ∧ ¬ w = 6 ∧ ¬ w = 7 ∧ ¬ w = 8) ∨ w = 0 ∨ w = 1 ∨ w = 2 ∨ w = 3 ∨ w = 4 ∨ w = 5 ∨ w = 6 ∨ w = 7 ∨ w = 8 := by
  by_cases h0 : w = 0
  · exact Or.inr (Or.inl h0)
  by_cases h1 : w = 1
  · exact Or.inr (Or.inr (Or.inl h1))
  by_cases h2 : w = 2
  · exact Or.inr (Or.inr (Or.inr (Or.inl h2)))
  by_cases h3 : w = 3
  · exact Or.inr (Or.inr (Or.inr (Or.inr (Or.inl h3))))
  by_cases h4 : w = 4
  · exact Or.inr (Or.inr (Or.inr (Or.inr (Or.inr (Or.inl h4)))))
  by_cases h5 : w = 5
  · exact Or.inr (Or.inr (Or.inr (Or.inr (Or.inr (Or.inr (Or.inl h5))))))
  by_cases h6 : w = 6
  · exact Or.inr (Or.inr (Or.inr (Or.inr (Or.inr (Or.inr (Or.inr (Or.inl h6)))))))
  by_cases h7 : w = 7
  · exact Or.inr (Or.inr (Or.inr (Or.inr (Or.inr (Or.inr (Or.inr (Or.inr (Or.inl h7))))))))
  by_cases h8 : w = 8
  · exact Or.inr (Or.inr (Or.inr (Or.inr (Or.inr (Or.inr (Or.inr (Or.inr (Or.inr h8))))))))
  · exact Or.inl ⟨h0, h1, h2, h3, h4, h5, h6, h7, h8⟩
/-- what is seen does not hang on what was there before -/
theorem vis_sol (d se : Nat → Int32) (tol g : Int32) {n0 n1 : Nat} (h0 : n0 ≤ 12) (h8 : n1 ≤ 8) (s u : SX) : VisX n0 n1 (solX d se tol g n0 n1 s) (solX d se tol g n0 n1 u) := by
  have hv := vr_votes d (se 0) tol g n0 n1 s.1.2.2 u.1.2.2
  obtain ⟨k, hI, hT⟩ := takes_rel (few := se 2) h0 h8 hv.2.2 s.2.1 u.2.1
  have h2 := takesX_two (votesX d (se 0) tol g n0 n1 s.1.2.2).2.2 (se 2) h0 h8 s.2.1
  have hz := trn_rel (d := d) s.2.2.1.2.1 s.2.2.1.2.2.1 u.2.2.1.2.1 u.2.2.1.2.2.1 s.2.2.1.2.2.2 u.2.2.1.2.2.2 h8 hI hT h2
  rw [solX_eq d se tol g n0 n1 s _ _ _ _ rfl rfl rfl rfl, solX_eq d se tol g n0 n1 u _ _ _ _ rfl rfl rfl rfl]
  generalize votesX d (se 0) tol g n0 n1 s.1.2.2 = v at *
  generalize votesX d (se 0) tol g n0 n1 u.1.2.2 = w at *
  generalize takesX v.2.2 (se 2) n0 n1 s.2.1 = T at *
  generalize takesX w.2.2 (se 2) n0 n1 u.2.1 = U at *
  generalize trnT d n0 T s.2.2.1.2.1 s.2.2.1.2.2.1 s.2.2.1.2.2.2 = z at *
  generalize trnT d n0 U u.2.2.1.2.1 u.2.2.1.2.2.1 u.2.2.1.2.2.2 = y at *
  have hc := cnf_rel (d := d) (pl := z.2.2.2) (pm := y.2.2.2) (near := se 3) (it := y.1) (g := g) (s := s.2.2.2) (u := u.2.2.2) h0 hz.2 n1
  rw [← hz.1] at hc
  refine ⟨hv.1, hv.2.1, hv.2.2, hT.2.1, hT.2.2.1, hT.1.symm, hz.1, hz.2, fun p hp => ?_, fun p hp => ?_⟩
  · have := (hc.2 p hp).1
    rw [← hz.1]
    exact this
  · have := (hc.2 p hp).2
    rw [← hz.1]
    exact this
