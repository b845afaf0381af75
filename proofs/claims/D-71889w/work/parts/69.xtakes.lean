/-! PURE WORDS: what is taken is what the model takes -/
/-- a code, a spot and a star -/
def Cd (b : Int32) (o : Int32 × Int32) : Prop := (b = -1 ∧ o.1 = -1) ∨ ∃ p i : Nat, p < 8 ∧ i < 12 ∧ b = nI (12 * p + i) ∧ o = (nI p, nI i)
section BO
variable {v : Nat → Int32} {few : Int32} {st us : Nat → Int32}
theorem cd_step {b : Int32} {o : Int32 × Int32} {p i : Nat} (hu : ∀ i, i < 12 → (us i = 0 ↔ frX st (nI i) 8)) (hp : p < 8) (hi : i < 12) (hst : st p = -1) (h : Cd b o) : Cd (bestS v few st us (12 * p + i) b) (oneS v few st p i o) := by
  have e1 : (12 * p + i) / 12 = p := by omega
  have e2 : (12 * p + i) % 12 = i := by omega
  have here : Cd (nI (12 * p + i)) (nI p, nI i) := Or.inr ⟨p, i, hp, hi, rfl, rfl⟩
  unfold bestS oneS
  rw [e1, e2, if_pos hst]
  by_cases c1 : few ≤ v (12 * p + i)
  · rw [if_pos c1, if_pos c1]
    by_cases c2 : us i = 0
    · rw [if_pos c2, if_pos ((hu i hi).mp c2)]
      rcases h with ⟨h1, h2⟩ | ⟨p', i', hp', hi', h1, h2⟩
      · rw [if_pos h1, if_pos h2]; exact here
      · have n1 : ¬ b = -1 := by rw [h1]; exact nI_nm1 (by omega)
        have n2 : ¬ o.1 = -1 := by rw [h2]; exact nI_nm1 (by omega)
        have t1 : b.toNatClampNeg = 12 * p' + i' := by rw [h1]; exact tn_nI (by omega)
        have t2 : 12 * o.1.toNatClampNeg + o.2.toNatClampNeg = 12 * p' + i' := by rw [h2]; show 12 * (nI p').toNatClampNeg + (nI i').toNatClampNeg = _; rw [tn_nI (by omega), tn_nI (by omega)]
        rw [if_neg n1, if_neg n2, t1, t2]
        by_cases c3 : v (12 * p' + i') < v (12 * p + i)
        · rw [if_pos c3, if_pos c3]; exact here
        · rw [if_neg c3, if_neg c3]; exact Or.inr ⟨p', i', hp', hi', h1, h2⟩
    · rw [if_neg c2, if_neg (fun q => c2 ((hu i hi).mpr q))]; exact h
  · rw [if_neg c1, if_neg c1]
    split <;> exact h
theorem best_no {b : Int32} {p i : Nat} (hi : i < 12) (h : ¬ st p = -1 ∨ ¬ few ≤ v (12 * p + i)) : bestS v few st us (12 * p + i) b = b := by
  have e1 : (12 * p + i) / 12 = p := by omega
  unfold bestS
  rw [e1]
  by_cases c1 : st p = -1
  · rw [if_pos c1]
    have c2 : ¬ few ≤ v (12 * p + i) := h.resolve_left (fun q => q c1)
    rw [if_neg c2]
    split <;> rfl
  · rw [if_neg c1]
theorem bestF_s (n : Nat) : bestF v few st us (n + 1) = bestS v few st us n (bestF v few st us n) := by unfold bestF; exact fz_s _ _ _
variable {n0 n1 : Nat}
theorem cd_row {p : Nat} {o : Int32 × Int32} (h0 : n0 ≤ 12) (hz : ∀ p i, p < 8 → i < 12 → (n1 ≤ p ∨ n0 ≤ i) → ¬ few ≤ v (12 * p + i)) (hu : ∀ i, i < 12 → (us i = 0 ↔ frX st (nI i) 8)) (hp : p < 8) (hst : st p = -1) (h : Cd (bestF v few st us (12 * p)) o) : ∀ m, m ≤ 12 → Cd (bestF v few st us (12 * p + m)) (onQ v few st p (min m n0) o) := by
  intro m
  induction m with
  | zero => intro _; rw [Nat.zero_min, onQ_0]; exact h
  | succ m ih =>
    intro hm
    have h9 := ih (by omega)
    show Cd (bestF v few st us (12 * p + m + 1)) _
    rw [bestF_s]
    by_cases c : m < n0
    · rw [Nat.min_eq_left (by omega), onQ_s]
      rw [Nat.min_eq_left (by omega)] at h9
      exact cd_step hu hp (by omega) hst h9
    · rw [Nat.min_eq_right (by omega)]
      rw [Nat.min_eq_right (by omega)] at h9
      rw [best_no (by omega) (Or.inr (hz p m hp (by omega) (Or.inr (by omega))))]
      exact h9
theorem best_same {p : Nat} (hno : ∀ i, i < 12 → ¬ st p = -1 ∨ ¬ few ≤ v (12 * p + i)) : ∀ m, m ≤ 12 → bestF v few st us (12 * p + m) = bestF v few st us (12 * p) := by
  intro m
  induction m with
  | zero => intro _; rfl
  | succ m ih =>
    intro hm
    show bestF v few st us (12 * p + m + 1) = _
    rw [bestF_s, best_no (by omega) (hno m (by omega)), ih (by omega)]
theorem cd_lo (h0 : n0 ≤ 12) (h8 : n1 ≤ 8) (hz : ∀ p i, p < 8 → i < 12 → (n1 ≤ p ∨ n0 ≤ i) → ¬ few ≤ v (12 * p + i)) (hu : ∀ i, i < 12 → (us i = 0 ↔ frX st (nI i) 8)) : ∀ p, p ≤ n1 → Cd (bestF v few st us (12 * p)) (oneP v few st n0 p) := by
  intro p
  induction p with
  | zero => intro _; rw [oneP_0]; exact Or.inl ⟨rfl, rfl⟩
  | succ p ih =>
    intro hp
    have h9 := ih (by omega)
    rw [oneP_s, show 12 * (p + 1) = 12 * p + 12 by omega]
    unfold oneI
    by_cases c : st p = -1
    · rw [if_pos c]
      have := cd_row h0 hz hu (by omega) c h9 12 (by omega)
      rw [Nat.min_eq_right h0] at this
      exact this
    · rw [if_neg c, best_same (fun i hi => Or.inl c) 12 (by omega)]
      exact h9
theorem cd_hi (h0 : n0 ≤ 12) (h8 : n1 ≤ 8) (hz : ∀ p i, p < 8 → i < 12 → (n1 ≤ p ∨ n0 ≤ i) → ¬ few ≤ v (12 * p + i)) (hu : ∀ i, i < 12 → (us i = 0 ↔ frX st (nI i) 8)) : Cd (bestF v few st us 96) (oneP v few st n0 n1) := by
  have e : ∀ k, n1 + k ≤ 8 → bestF v few st us (12 * (n1 + k)) = bestF v few st us (12 * n1) := by
    intro k
    induction k with
    | zero => intro _; rfl
    | succ k ih =>
      intro hk
      rw [show 12 * (n1 + (k + 1)) = 12 * (n1 + k) + 12 by omega, best_same (fun i hi => Or.inr (hz (n1 + k) i (by omega) hi (Or.inl (by omega)))) 12 (by omega), ih (by omega)]
  have e8 := e (8 - n1) (by omega)
  rw [show 12 * (n1 + (8 - n1)) = 96 by omega] at e8
  rw [e8]
  exact cd_lo h0 h8 hz hu n1 (Nat.le_refl _)
end BO
/-- what the model took, what the tracker took -/
def TkR (k : Nat) (s : TK) (t : TX) : Prop := s.2.2.2 = t.2.2.2 ∧ (∀ p, p < 8 → s.1 p = t.1 p) ∧ (∀ p, p < 8 → s.2.1 p = t.2.1 p) ∧ (∀ i, i < 12 → (s.2.2.1 i = 0 ↔ frX t.1 (nI i) 8)) ∧ (∀ p q, p < 8 → q < k → (s.2.1 p = nI q ↔ t.2.2.1 q = nI p)) ∧ (∀ p, p < 8 → s.1 p = -1 → s.2.1 p = -1) ∧ ∀ p, p < 8 → s.2.1 p = -1 ∨ ∃ q : Nat, q < k ∧ s.2.1 p = nI q
theorem tk_asg {k : Nat} {s : TK} {t : TX} {p i : Nat} (h : TkR k s t) (hI : TxInv t k) (hk : k < 8) (hp : p < 8) (hi : i < 12) (hst : t.1 p = -1) : TkR (k + 1) (asgF s (12 * p + i)) (asgX t (nI p, nI i)) := by
  have e1 : (12 * p + i) / 12 = p := by omega
  have e2 : (12 * p + i) % 12 = i := by omega
  have tp : (nI p).toNatClampNeg = p := tn_nI (by omega)
  have tk : t.2.2.2.toNatClampNeg = k := by rw [hI.1]; exact tn_nI (by omega)
  obtain ⟨h1, h2, h3, h4, h5, h6, h7⟩ := h
  have hrk : ∀ q, q < k → ¬ t.2.2.1 q = nI p := fun q hq z => by
    have a1 := (h5 p q hp hq).mpr z
    rw [h6 p hp ((h2 p hp).trans hst)] at a1
    exact nI_nm1 (by omega) a1.symm
  unfold asgF asgX
  rw [e1, e2]
  refine ⟨?_, ?_, ?_, ?_, ?_, ?_, ?_⟩
  · show s.2.2.2 + 1 = t.2.2.2 + 1
    rw [h1]
  · show ∀ q, q < 8 → upd s.1 p (nI i) q = upd t.1 (nI p).toNatClampNeg (nI i) q
    rw [tp]; exact upd_rel h2 _ _
  · show ∀ q, q < 8 → upd s.2.1 p s.2.2.2 q = upd t.2.1 (nI p).toNatClampNeg t.2.2.2 q
    rw [tp, h1]; exact upd_rel h3 _ _
  · show ∀ j, j < 12 → (upd s.2.2.1 i 1 j = 0 ↔ frX (upd t.1 (nI p).toNatClampNeg (nI i)) (nI j) 8)
    rw [tp]
    intro j hj
    by_cases e : j = i
    · subst e
      rw [upd_eq]
      constructor
      · intro q; exact absurd q (by decide)
      · intro q; exact absurd (upd_eq _ _ _) (q p hp)
    · rw [upd_nej _ _ e, h4 j hj]
      constructor
      · intro q r hr
        by_cases er : r = p
        · subst er; rw [upd_eq]; exact fun z => e ((nI_eq (by omega) (by omega)).mp z.symm)
        · rw [upd_nej _ _ er]; exact q r hr
      · intro q r hr
        by_cases er : r = p
        · subst er; rw [hst]; exact fun z => nI_nm1 (by omega) z.symm
        · have := q r hr; rw [upd_nej _ _ er] at this; exact this
  · show ∀ r q, r < 8 → q < k + 1 → (upd s.2.1 p s.2.2.2 r = nI q ↔ upd t.2.2.1 t.2.2.2.toNatClampNeg (nI p) q = nI r)
    rw [tk, h1, hI.1]
    intro r q hr hq
    by_cases er : r = p
    · subst er
      rw [upd_eq]
      by_cases eq : q = k
      · subst eq; rw [upd_eq]; exact ⟨fun _ => rfl, fun _ => rfl⟩
      · rw [upd_nej _ _ eq]
        exact ⟨fun z => absurd ((nI_eq (by omega) (by omega)).mp z).symm eq, fun z => absurd z (hrk q (by omega))⟩
    · rw [upd_nej _ _ er]
      by_cases eq : q = k
      · subst eq
        rw [upd_eq]
        refine ⟨fun z => ?_, fun z => absurd ((nI_eq (by omega) (by omega)).mp z).symm er⟩
        rcases h7 r hr with h8 | ⟨q', hq', h8⟩
        · rw [h8] at z; exact absurd z.symm (nI_nm1 (by omega))
        · rw [h8] at z; exact absurd ((nI_eq (by omega) (by omega)).mp z) (by omega)
      · rw [upd_nej _ _ eq]
        exact h5 r q hr (by omega)
  · show ∀ r, r < 8 → upd s.1 p (nI i) r = -1 → upd s.2.1 p s.2.2.2 r = -1
    intro r hr z
    by_cases er : r = p
    · subst er; rw [upd_eq] at z; exact absurd z (nI_nm1 (by omega))
    · rw [upd_nej _ _ er] at z ⊢; exact h6 r hr z
  · show ∀ r, r < 8 → upd s.2.1 p s.2.2.2 r = -1 ∨ ∃ q : Nat, q < k + 1 ∧ upd s.2.1 p s.2.2.2 r = nI q
    rw [h1, hI.1]
    intro r hr
    by_cases er : r = p
    · subst er; rw [upd_eq]; exact Or.inr ⟨k, by omega, rfl⟩
    · rw [upd_nej _ _ er]
      rcases h7 r hr with h8 | ⟨q', hq', h8⟩
      · exact Or.inl h8
      · exact Or.inr ⟨q', by omega, h8⟩
theorem bestF_st {v : Nat → Int32} {few : Int32} {st su us : Nat → Int32} (h : ∀ p, p < 8 → st p = su p) : ∀ n, n ≤ 96 → bestF v few st us n = bestF v few su us n := by
  intro n
  induction n with
  | zero => intro _; unfold bestF; rw [fz_0, fz_0]
  | succ n ih =>
    intro hn
    rw [bestF_s, bestF_s, ih (by omega)]
    unfold bestS
    rw [h (n / 12) (by omega)]
theorem takesL_rel {v : Nat → Int32} {few : Int32} {n0 n1 : Nat} (h0 : n0 ≤ 12) (h8 : n1 ≤ 8) (hz : ∀ p i, p < 8 → i < 12 → (n1 ≤ p ∨ n0 ≤ i) → ¬ few ≤ v (12 * p + i)) : ∀ (f : Nat) (s : TK) (t : TX) (k : Nat), TxInv t k → TkR k s t → ∃ k2, TxInv (takesXL v few n0 n1 f t) k2 ∧ TkR k2 (takesL v few f s) (takesXL v few n0 n1 f t) := by
  intro f
  induction f with
  | zero => exact fun s t k h g => ⟨k, h, g⟩
  | succ f ih =>
    intro s t k h g
    rw [takesXL_s, takesL_s, bestF_st g.2.1 96 (by omega)]
    have hc := cd_hi h0 h8 hz (us := s.2.2.1) (st := t.1) g.2.2.2.1
    rcases hc with ⟨c1, c2⟩ | ⟨p, i, hp, hi, c1, c2⟩
    · rw [if_pos c1, if_pos c2]; exact ⟨k, h, g⟩
    · have n2 : ¬ (oneP v few t.1 n0 n1).1 = -1 := by rw [c2]; exact nI_nm1 (by omega)
      have ok := oneP_ok (v := v) (few := few) (st := t.1) h0 n1 h8
      obtain ⟨i1, i2, -⟩ := txInv_s h ok n2
      have hst : t.1 p = -1 := by
        have := (ok n2).2.2.2.2
        rw [c2] at this
        rw [show (nI p, nI i).1.toNatClampNeg = p from tn_nI (by omega)] at this
        exact this
      have n3 : ¬ bestF v few t.1 s.2.2.1 96 = -1 := by rw [c1]; exact nI_nm1 (by omega)
      rw [if_neg n2, if_neg n3, c1, tn_nI (by omega), c2]
      rw [c2] at i1
      exact ih _ _ (k + 1) i1 (tk_asg g h i2 hp hi hst)
theorem takesF_rel {v : Nat → Int32} {few : Int32} {n0 n1 : Nat} (h0 : n0 ≤ 12) (h8 : n1 ≤ 8) (hz : ∀ p i, p < 8 → i < 12 → (n1 ≤ p ∨ n0 ≤ i) → ¬ few ≤ v (12 * p + i)) (s : TK) (t : TX) : ∃ k, TxInv (takesX v few n0 n1 t) k ∧ TkR k (takesF v few s) (takesX v few n0 n1 t) :=
  takesL_rel h0 h8 hz 8 _ _ 0 (txInv_0 _ _ _) ⟨rfl, fun p hp => (noneF_at _ 8 p hp).trans (noneF_at _ 8 p hp).symm, fun p hp => (noneF_at _ 8 p hp).trans (noneF_at _ 8 p hp).symm, fun i hi => ⟨fun _ q hq z => by
    have a1 : noneF 8 t.1 q = -1 := noneF_at _ 8 q hq
    have z1 : noneF 8 t.1 q = nI i := z
    rw [a1] at z1
    exact nI_nm1 (by omega) z1.symm, fun _ => zerosF_at _ 12 i hi⟩, fun p q _ hq => absurd hq (Nat.not_lt_zero q), fun p hp _ => noneF_at _ 8 p hp, fun p hp => Or.inl (noneF_at _ 8 p hp)⟩
