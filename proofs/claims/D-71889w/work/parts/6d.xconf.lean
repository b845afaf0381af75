/-! PURE WORDS: what is confirmed is the model's -/
theorem far_eq1 {x y : Int32} (hx : x.toInt.natAbs ≤ 100) (hy : y.toInt.natAbs ≤ 2147483000) : apartF x y = absX (y - x) := by
  have e1 : (y - x).toInt = y.toInt - x.toInt := by rw [Int32.toInt_sub]; exact Int.bmod_eq_of_le (by omega) (by omega)
  have z : (0 : Int32).toInt = 0 := by decide
  unfold apartF absX
  by_cases h : x < y
  · rw [if_pos h]
    rw [Int32.lt_iff_toInt_lt] at h
    rw [if_pos (by rw [Int32.le_iff_toInt_le, e1, z]; omega)]
  · rw [if_neg h]
    rw [Int32.lt_iff_toInt_lt] at h
    by_cases g : (0 : Int32) ≤ y - x
    · rw [if_pos g]
      rw [Int32.le_iff_toInt_le, e1, z] at g
      have e : x = y := Int32.toInt_inj.mp (by omega)
      rw [e]
    · rw [if_neg g, Int32.neg_sub]
section CFV
variable {d pm px us ut : Nat → Int32} {near it g : Int32} {n n1 p : Nat}
abbrev PlB (n : Nat) (pm px : Nat → Int32) : Prop := ∀ j, j < 3 * n → pm j = px j ∧ (px j).toInt.natAbs ≤ 2147483000
theorem far_eq (hd : ∀ w, w < 3 → (d (36 * 1 + 3 * p + w)).toInt.natAbs ≤ 100) {i : Nat} (hi : i < n) (h : PlB n pm px) : farF d pm p i = farX d px p i := by
  unfold farF farX
  rw [(h (3 * i + 0) (by omega)).1, (h (3 * i + 1) (by omega)).1, (h (3 * i + 2) (by omega)).1, far_eq1 (hd 0 (by decide)) (h (3 * i + 0) (by omega)).2, far_eq1 (hd 1 (by decide)) (h (3 * i + 1) (by omega)).2, far_eq1 (hd 2 (by decide)) (h (3 * i + 2) (by omega)).2]
theorem confS_rel {i : Nat} {s u : SF} (hd : ∀ w, w < 3 → (d (36 * 1 + 3 * p + w)).toInt.natAbs ≤ 100) (hi : i < n) (hn : n ≤ 12) (hpl : PlB n pm px) (hus : ∀ j, j < 12 → us j = ut j) (h : SR p s u) : SR p (confS d pm us near p i s) (cnfS d px ut near p i u) := by
  unfold confS cnfS
  rw [hus i (by omega), far_eq hd hi hpl, (h p (Nat.le_refl _)).1, (h p (Nat.le_refl _)).2]
  by_cases c1 : ut i = 0
  · rw [if_pos c1, if_pos c1]
    by_cases c2 : farX d px p i ≤ near
    · rw [if_pos c2, if_pos c2]
      by_cases c3 : u.1 p = -1
      · rw [if_pos c3, if_pos c3]; exact sr_upd h _ _
      · rw [if_neg c3, if_neg c3]
        by_cases c4 : farX d px p i < u.2 p
        · rw [if_pos c4, if_pos c4]; exact sr_upd h _ _
        · rw [if_neg c4, if_neg c4]; exact h
    · rw [if_neg c2, if_neg c2]; exact h
  · rw [if_neg c1, if_neg c1]; exact h
theorem confJ_rel {s u : SF} (hd : ∀ w, w < 3 → (d (36 * 1 + 3 * p + w)).toInt.natAbs ≤ 100) (hp : p < n1) (hn : n ≤ 12) (hpl : ¬ it = 0 → PlB n pm px) (hus : ∀ j, j < 12 → us j = ut j) (h : ∀ q, q < p → s.1 q = u.1 q ∧ s.2 q = u.2 q) : SR p (confJ d pm us near it g n n1 p s) (cnfJ d px ut near it g n p u) := by
  have h9 : SR p (upd s.1 p (-1), upd s.2 p (-1)) (upd u.1 p (-1), upd u.2 p (-1)) := fun q hq => by
    show (if q = p then _ else s.1 q) = (if q = p then _ else u.1 q) ∧ (if q = p then _ else s.2 q) = if q = p then _ else u.2 q
    by_cases e : q = p
    · rw [if_pos e, if_pos e, if_pos e, if_pos e]; exact ⟨rfl, rfl⟩
    · rw [if_neg e, if_neg e, if_neg e, if_neg e]; exact h q (by omega)
  unfold confJ cnfJ
  by_cases c : okX it g p
  · rw [if_pos c, if_pos ⟨c.1, hp, c.2⟩]
    exact fz_rel (R := SR p) n h9 (fun i s u hi h => confS_rel hd hi hn (hpl c.1) hus h)
  · rw [if_neg c, if_neg (fun q => c ⟨q.1, q.2.2⟩)]; exact h9
abbrev CfR (m : Nat) (s : CF) (u : CX) : Prop := s.1 = cnfN u.2.1 m ∧ (∀ j, j < 12 → s.2.1 j = u.1 j) ∧ ∀ q, q < m → s.2.2.1 q = u.2.1 q ∧ s.2.2.2 q = u.2.2 q
theorem cnfJ_lo {s : SF} {q : Nat} (hq : q < p) : (cnfJ d px us near it g n p s).1 q = s.1 q := by
  have b : (upd s.1 p (-1)) q = s.1 q := upd_nej _ _ (by omega)
  unfold cnfJ
  split
  · unfold cnfI
    refine fz_inv (P := fun z : SF => z.1 q = s.1 q) n b fun i z hi hz => ?_
    have k : ∀ x y, ((upd z.1 p x, upd z.2 p y) : SF).1 q = s.1 q := fun x y => (upd_nej _ _ (by omega)).trans hz
    unfold cnfS
    split
    · split
      · split
        · exact k _ _
        · split
          · exact k _ _
          · exact hz
      · exact hz
    · exact hz
  · exact b
theorem confP_rel {s : CF} {u : CX} (hd : ∀ w, w < 3 → (d (36 * 1 + 3 * p + w)).toInt.natAbs ≤ 100) (hp : p < n1) (hn : n ≤ 12) (hpl : ¬ it = 0 → PlB n pm px) (h : CfR p s u) : CfR (p + 1) (confP d pm near it g n n1 p s) (cnfP d px near it g n p u) := by
  have hj := confJ_rel (near := near) (g := g) (it := it) hd hp hn hpl h.2.1 h.2.2
  have e := (hj p (Nat.le_refl _)).1
  have hc : cnfN (cnfJ d px u.1 near it g n p u.2).1 p = cnfN u.2.1 p := cnfN_c (fun q hq => cnfJ_lo hq)
  unfold confP cnfP
  rw [e]
  by_cases c : (cnfJ d px u.1 near it g n p u.2).1 p = -1
  · rw [if_pos c, if_pos c]
    refine ⟨?_, h.2.1, fun q hq => hj q (by omega)⟩
    show s.1 = cnfN (cnfJ d px u.1 near it g n p u.2).1 (p + 1)
    rw [cnfN_s, if_pos c, hc, h.1, Int32.add_zero]
  · rw [if_neg c, if_neg c]
    refine ⟨?_, upd_rel h.2.1 _ _, fun q hq => hj q (by omega)⟩
    show s.1 + 1 = cnfN (cnfJ d px u.1 near it g n p u.2).1 (p + 1)
    rw [cnfN_s, if_neg c, hc, h.1]
end CFV
theorem conf_vis {d pm px : Nat → Int32} {near it g : Int32} {n n1 : Nat} (hd : DirA d) (h8 : n1 ≤ 8) (hn : n ≤ 12) (hpl : ¬ it = 0 → PlB n pm px) (s : CF) (u : CX) : CfR n1 (confF d pm near it g n n1 s) (cnfX d px near it g n n1 u) := by
  have lo : ∀ m, m ≤ n1 → CfR m (fz (fun p s => confP d pm near it g n n1 p s) m (0, zerosF 12 s.2.1, s.2.2)) (cnfX d px near it g n m u) := by
    intro m
    induction m with
    | zero => intro _; exact ⟨rfl, fun j hj => (zerosF_at _ 12 j hj).trans (zerosF_at _ 12 j hj).symm, fun q hq => absurd hq (Nat.not_lt_zero q)⟩
    | succ m ih =>
      intro hm
      have e2 : cnfX d px near it g n (m + 1) u = cnfP d px near it g n m (cnfX d px near it g n m u) := by unfold cnfX; exact fz_s _ _ _
      rw [fz_s, e2]
      exact confP_rel (fun w hw => hd _ (by omega)) (by omega) hn hpl (ih (by omega))
  have hi : ∀ k, n1 + k ≤ 8 → CfR n1 (fz (fun p s => confP d pm near it g n n1 p s) (n1 + k) (0, zerosF 12 s.2.1, s.2.2)) (cnfX d px near it g n n1 u) := by
    intro k
    induction k with
    | zero => intro _; exact lo n1 (Nat.le_refl _)
    | succ k ih =>
      intro hk
      have h9 := ih (by omega)
      show CfR n1 (fz _ (n1 + k + 1) _) _
      rw [fz_s]
      generalize fz (fun p s => confP d pm near it g n n1 p s) (n1 + k) (0, zerosF 12 s.2.1, s.2.2) = z at h9 ⊢
      have ej : confJ d pm z.2.1 near it g n n1 (n1 + k) z.2.2 = (upd z.2.2.1 (n1 + k) (-1), upd z.2.2.2 (n1 + k) (-1)) := by
        unfold confJ; rw [if_neg (fun q => absurd q.2.1 (by omega))]
      show CfR n1 (confP d pm near it g n n1 (n1 + k) z) _
      unfold confP
      rw [ej, if_pos (upd_eq _ _ _)]
      refine ⟨h9.1, h9.2.1, fun q hq => ?_⟩
      show upd z.2.2.1 (n1 + k) (-1) q = _ ∧ upd z.2.2.2 (n1 + k) (-1) q = _
      rw [upd_nej _ _ (by omega), upd_nej _ _ (by omega)]
      exact h9.2.2 q hq
  have := hi (8 - n1) (by omega)
  rw [show n1 + (8 - n1) = 8 by omega] at this
  exact this
