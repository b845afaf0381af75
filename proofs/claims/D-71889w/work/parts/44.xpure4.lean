/-! PURE WORDS of the tracker: what taking gives; solving -/
theorem onQ_lt {v : Nat → Int32} {few : Int32} {st : Nat → Int32} {p n n0 : Nat} {s : Int32 × Int32} (hn : n ≤ n0) (h0 : n0 ≤ 12) (hp : p < 8) (h : ¬ s.1 = -1 → s.1.toNatClampNeg ≤ p ∧ s.2.toNatClampNeg < n0) : ¬ (onQ v few st p n s).1 = -1 → (onQ v few st p n s).1.toNatClampNeg ≤ p ∧ (onQ v few st p n s).2.toNatClampNeg < n0 := by
  induction n with
  | zero => exact h
  | succ n ih =>
    have ih := ih (by omega)
    have here : (nI p).toNatClampNeg ≤ p ∧ (nI n).toNatClampNeg < n0 := by rw [tn_nI (by omega), tn_nI (by omega)]; omega
    rw [onQ_s]
    unfold oneS
    split
    · split
      · split
        · exact fun _ => here
        · split
          · exact fun _ => here
          · exact ih
      · exact ih
    · exact ih
theorem oneP_lt {v : Nat → Int32} {few : Int32} {st : Nat → Int32} {n0 : Nat} (h0 : n0 ≤ 12) : ∀ n, n ≤ 8 → ¬ (oneP v few st n0 n).1 = -1 → (oneP v few st n0 n).1.toNatClampNeg < n ∧ (oneP v few st n0 n).2.toNatClampNeg < n0 := by
  intro n
  induction n with
  | zero => exact fun _ h => absurd rfl h
  | succ n ih =>
    intro hn
    have ih := ih (by omega)
    rw [oneP_s]
    unfold oneI
    by_cases hst : st n = -1
    · rw [if_pos hst]
      intro q
      have := onQ_lt (v := v) (few := few) (st := st) (p := n) (n := n0) (Nat.le_refl _) h0 (by omega) (fun z => by have := ih z; omega) q
      omega
    · rw [if_neg hst]
      intro q
      have := ih q
      omega
/-- the first two that were taken -/
def TwoOk (n0 n1 : Nat) (s : TX) : Prop := ¬ s.2.2.2 ≤ 1 → ∃ p0 p1 i0 i1 : Nat, p0 < n1 ∧ p1 < n1 ∧ i0 < n0 ∧ i1 < n0 ∧ s.2.2.1 0 = nI p0 ∧ s.2.2.1 1 = nI p1 ∧ s.1 p0 = nI i0 ∧ s.1 p1 = nI i1
def TxSp (n0 n1 : Nat) (s : TX) (k : Nat) : Prop := ∀ j, j < k → ∃ p i : Nat, p < n1 ∧ i < n0 ∧ s.2.2.1 j = nI p ∧ s.1 p = nI i
theorem txSp_s {n0 n1 : Nat} {s : TX} {k : Nat} {o : Int32 × Int32} (h0 : n0 ≤ 12) (h8 : n1 ≤ 8) (hI : TxInv s k) (h : TxSp n0 n1 s k) (ho : OneOk s.1 o) (hl : ¬ o.1 = -1 → o.1.toNatClampNeg < n1 ∧ o.2.toNatClampNeg < n0) (hn : ¬ o.1 = -1) : TxSp n0 n1 (asgX s o) (k + 1) := by
  obtain ⟨e1, p8, e2, i12, hst⟩ := ho hn
  obtain ⟨l1, l2⟩ := hl hn
  have hk : k < 8 := (txInv_s hI ho hn).2.1
  have ek : s.2.2.2.toNatClampNeg = k := by rw [hI.1]; exact tn_nI (by omega)
  intro j hj
  show ∃ p i : Nat, p < n1 ∧ i < n0 ∧ upd s.2.2.1 s.2.2.2.toNatClampNeg o.1 j = nI p ∧ upd s.1 o.1.toNatClampNeg o.2 p = nI i
  rw [ek]
  by_cases e : j = k
  · refine ⟨o.1.toNatClampNeg, o.2.toNatClampNeg, l1, l2, ?_, ?_⟩
    · show (if j = k then o.1 else _) = _
      rw [if_pos e]; exact e1
    · show (if _ = _ then o.2 else _) = _
      rw [if_pos rfl]; exact e2
  · obtain ⟨p, i, a1, a2, a3, a4⟩ := h j (by omega)
    refine ⟨p, i, a1, a2, ?_, ?_⟩
    · show (if j = k then o.1 else s.2.2.1 j) = _
      rw [if_neg e]; exact a3
    · show (if p = o.1.toNatClampNeg then o.2 else s.1 p) = _
      rw [if_neg (fun q => ?_)]
      · exact a4
      · rw [q, hst] at a4
        exact nI_nm1 (by omega) a4.symm
theorem takesXL_sp (v : Nat → Int32) (few : Int32) {n0 n1 : Nat} (h0 : n0 ≤ 12) (h8 : n1 ≤ 8) : ∀ (f : Nat) (s : TX) (k : Nat), TxInv s k → TxSp n0 n1 s k → ∃ k2, TxInv (takesXL v few n0 n1 f s) k2 ∧ TxSp n0 n1 (takesXL v few n0 n1 f s) k2 := by
  intro f
  induction f with
  | zero => exact fun s k h g => ⟨k, h, g⟩
  | succ f ih =>
    intro s k h g
    rw [takesXL_s]
    by_cases e : (oneP v few s.1 n0 n1).1 = -1
    · rw [if_pos e]; exact ⟨k, h, g⟩
    · rw [if_neg e]
      exact ih _ (k + 1) (txInv_s h (oneP_ok h0 n1 h8) e).1 (txSp_s h0 h8 h g (oneP_ok h0 n1 h8) (oneP_lt h0 n1 h8) e)
theorem takesX_two (v : Nat → Int32) (few : Int32) {n0 n1 : Nat} (h0 : n0 ≤ 12) (h8 : n1 ≤ 8) (s : TX) : TwoOk n0 n1 (takesX v few n0 n1 s) := by
  obtain ⟨k, h1, h2⟩ := takesXL_sp v few h0 h8 8 _ 0 (txInv_0 s.1 s.2.1 s.2.2.1) (fun j hj => by omega)
  intro hp
  have hk : 2 ≤ k := by
    rcases Nat.lt_or_ge k 2 with q | q
    · exact absurd (by show (takesX v few n0 n1 s).2.2.2 ≤ 1; rw [show (takesX v few n0 n1 s).2.2.2 = nI k from h1.1]; exact (nI_leI (by omega) (by omega : 1 < 2 ^ 31)).mpr (by omega)) hp
    · exact q
  obtain ⟨p0, i0, a1, a2, a3, a4⟩ := h2 0 (by omega)
  obtain ⟨p1, i1, b1, b2, b3, b4⟩ := h2 1 (by omega)
  exact ⟨p0, p1, i0, i1, a1, b1, a2, b2, a3, b3, a4, b4⟩
/-- the turn out of what was taken -/
def trnT (d : Nat → Int32) (n : Nat) (T : TX) (F G : Nat → Int64) (f : Nat → Int32) : TNX :=
  trnX d n T.2.2.2 (T.2.2.1 0).toNatClampNeg (T.2.2.1 1).toNatClampNeg (T.1 (T.2.2.1 0).toNatClampNeg).toNatClampNeg (T.1 (T.2.2.1 1).toNatClampNeg).toNatClampNeg F G f
/-- all that solving finds -/
abbrev SX : Type := VS × TX × TNX × CX
def solC (d se : Nat → Int32) (g : Int32) (n n1 : Nat) (s : SX) (v : VS) (k : TX) (z : TNX) : SX := (v, k, z, cnfX d z.2.2.2 (se 3) z.1 g n n1 s.2.2.2)
def solB (d se : Nat → Int32) (g : Int32) (n n1 : Nat) (s : SX) (v : VS) (k : TX) : SX := solC d se g n n1 s v k (trnT d n k s.2.2.1.2.1 s.2.2.1.2.2.1 s.2.2.1.2.2.2)
def solA (d se : Nat → Int32) (g : Int32) (n n1 : Nat) (s : SX) (v : VS) : SX := solB d se g n n1 s v (takesX v.2.2 (se 2) n n1 s.2.1)
def solX (d se : Nat → Int32) (tol g : Int32) (n n1 : Nat) (s : SX) : SX := solA d se g n n1 s (votesX d (se 0) tol g n n1 s.1.2.2)
theorem solX_eq (d se : Nat → Int32) (tol g : Int32) (n n1 : Nat) (s : SX) (v : VS) (k : TX) (z : TNX) (c : CX) (hv : v = votesX d (se 0) tol g n n1 s.1.2.2) (hk : k = takesX v.2.2 (se 2) n n1 s.2.1) (hz : z = trnT d n k s.2.2.1.2.1 s.2.2.1.2.2.1 s.2.2.1.2.2.2) (hc : c = cnfX d z.2.2.2 (se 3) z.1 g n n1 s.2.2.2) : solX d se tol g n n1 s = (v, k, z, c) := by
  unfold solX
  rw [← hv]
  unfold solA
  rw [← hk]
  unfold solB
  rw [← hz]
  unfold solC
  rw [← hc]
theorem two_nat {n0 n1 : Nat} {s : TX} (h0 : n0 ≤ 12) (h8 : n1 ≤ 8) (h : TwoOk n0 n1 s) : ¬ s.2.2.2 ≤ 1 → (s.2.2.1 0).toNatClampNeg < n1 ∧ (s.2.2.1 1).toNatClampNeg < n1 ∧ (s.1 (s.2.2.1 0).toNatClampNeg).toNatClampNeg < n0 ∧ (s.1 (s.2.2.1 1).toNatClampNeg).toNatClampNeg < n0 ∧ s.2.2.1 0 = nI (s.2.2.1 0).toNatClampNeg ∧ s.2.2.1 1 = nI (s.2.2.1 1).toNatClampNeg ∧ s.1 (s.2.2.1 0).toNatClampNeg = nI (s.1 (s.2.2.1 0).toNatClampNeg).toNatClampNeg ∧ s.1 (s.2.2.1 1).toNatClampNeg = nI (s.1 (s.2.2.1 1).toNatClampNeg).toNatClampNeg := by
  intro hp
  obtain ⟨p0, p1, i0, i1, a1, a2, a3, a4, a5, a6, a7, a8⟩ := h hp
  rw [a5, a6, tn_nI (by omega), tn_nI (by omega), a7, a8, tn_nI (by omega), tn_nI (by omega)]
  exact ⟨a1, a2, a3, a4, rfl, rfl, rfl, rfl⟩
