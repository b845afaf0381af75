/-! PURE WORDS of the tracker: solving sees nothing of what was there before -/
theorem fz_rel {α β : Type} {R : α → β → Prop} {f : Nat → α → α} {g : Nat → β → β} : ∀ (n : Nat) {s : α} {u : β}, R s u → (∀ i s u, i < n → R s u → R (f i s) (g i u)) → R (fz f n s) (fz g n u) := by
  intro n
  induction n with
  | zero => exact fun h _ => h
  | succ n ih => exact fun h hs => hs n _ _ (by omega) (ih h (fun i s u hi => hs i s u (by omega)))
theorem fr_rel {α β : Type} {R : α → β → Prop} {f : Nat → α → α} {g : Nat → β → β} (lo : Nat) : ∀ (n : Nat) {s : α} {u : β}, R s u → (∀ i s u, R s u → R (f i s) (g i u)) → R (fr f lo n s) (fr g lo n u) := by
  intro n
  induction n with
  | zero => exact fun h _ => h
  | succ n ih => exact fun h hs => hs (lo + n) _ _ (ih h hs)
abbrev VR (s u : VS) : Prop := s.1 = u.1 ∧ s.2.1 = u.2.1 ∧ ∀ j, j < 96 → s.2.2 j = u.2.2 j
theorem bump_rel {f g : Nat → Int32} (h : ∀ j, j < 96 → f j = g j) (k : Nat) : ∀ j, j < 96 → bumpF f k j = bumpF g k j := by
  intro j hj
  show (if j = k then f k + 1 else f j) = if j = k then g k + 1 else g j
  by_cases e : j = k
  · subst e; rw [if_pos rfl, if_pos rfl, h j hj]
  · rw [if_neg e, if_neg e, h j hj]
theorem vr_tries {d : Nat → Int32} {tol : Int32} {p q r i j k : Nat} {s u : VS} (h : VR s u) : VR (triesX d tol p q r i j k s) (triesX d tol p q r i j k u) := by
  unfold triesX
  by_cases h1 : likX d tol p q i j
  · rw [if_pos h1, if_pos h1]
    by_cases h2 : likX d tol q r j k
    · rw [if_pos h2, if_pos h2]
      by_cases h3 : likX d tol p r i k
      · rw [if_pos h3, if_pos h3]
        exact ⟨h.1, congrArg (· + 1) h.2.1, bump_rel (bump_rel (bump_rel h.2.2 _) _) _⟩
      · rw [if_neg h3, if_neg h3]; exact h
    · rw [if_neg h2, if_neg h2]; exact h
  · rw [if_neg h1, if_neg h1]; exact h
theorem vr_meets {d : Nat → Int32} {b tol : Int32} {p q r i j k : Nat} {s u : VS} (h : VR s u) : VR (meetsX d b tol p q r i j k s) (meetsX d b tol p q r i j k u) := by
  unfold meetsX
  by_cases h1 : nerX d b p q r i j k
  · rw [if_pos h1, if_pos h1]
    unfold sixX
    exact vr_tries (vr_tries (vr_tries (vr_tries (vr_tries (vr_tries ⟨congrArg (· + 1) h.1, h.2⟩)))))
  · rw [if_neg h1, if_neg h1]; exact h
theorem vr_looks {d : Nat → Int32} {b tol : Int32} {n p q r : Nat} {s u : VS} (h : VR s u) : VR (looksX d b tol n p q r s) (looksX d b tol n p q r u) :=
  fz_rel (R := VR) n h (fun _ _ _ _ h => fr_rel (R := VR) _ _ h (fun _ _ _ h => fr_rel (R := VR) _ _ h (fun _ _ _ h => vr_meets h)))
theorem vr_4 {d : Nat → Int32} {b tol g : Int32} {n p q r : Nat} {s u : VS} (h : VR s u) : VR (votesX4 d b tol g n p q r s) (votesX4 d b tol g n p q r u) := by
  unfold votesX4
  by_cases h1 : nI p = g
  · rw [if_pos h1, if_pos h1]; exact h
  · rw [if_neg h1, if_neg h1]
    by_cases h2 : nI q = g
    · rw [if_pos h2, if_pos h2]; exact h
    · rw [if_neg h2, if_neg h2]
      by_cases h3 : nI r = g
      · rw [if_pos h3, if_pos h3]; exact h
      · rw [if_neg h3, if_neg h3]; exact vr_looks h
theorem zerosF_at (f : Nat → Int32) (n p : Nat) (h : p < n) : zerosF n f p = 0 := by
  induction n with
  | zero => omega
  | succ n ih =>
    show (if p = n then 0 else zerosF n f p) = 0
    by_cases e : p = n
    · rw [if_pos e]
    · rw [if_neg e]; exact ih (by omega)
theorem vr_votes (d : Nat → Int32) (b tol g : Int32) (n n1 : Nat) (v w : Nat → Int32) : VR (votesX d b tol g n n1 v) (votesX d b tol g n n1 w) :=
  fz_rel (R := VR) n1 ⟨rfl, rfl, fun j hj => (zerosF_at v 96 j hj).trans (zerosF_at w 96 j hj).symm⟩ (fun _ _ _ _ h => fr_rel (R := VR) _ _ h (fun _ _ _ h => fr_rel (R := VR) _ _ h (fun _ _ _ h => vr_4 h)))
/-! taking -/
section TK
variable {v w : Nat → Int32} {few : Int32} {st su : Nat → Int32}
theorem oneS_cong {p i : Nat} {s : Int32 × Int32} (hv : ∀ j, j < 96 → v j = w j) (hs : ∀ q, q < 8 → st q = su q) (hp : p < 8) (hi : i < 12) (ho : OneOk st s) : oneS v few st p i s = oneS w few su p i s := by
  have e1 : v (12 * p + i) = w (12 * p + i) := hv _ (by omega)
  have e2 : frX st (nI i) 8 ↔ frX su (nI i) 8 := ⟨fun h q hq => by rw [← hs q hq]; exact h q hq, fun h q hq => by rw [hs q hq]; exact h q hq⟩
  unfold oneS
  rw [e1]
  by_cases c1 : few ≤ w (12 * p + i)
  · rw [if_pos c1, if_pos c1]
    by_cases c2 : frX su (nI i) 8
    · rw [if_pos (e2.mpr c2), if_pos c2]
      by_cases c3 : s.1 = -1
      · rw [if_pos c3, if_pos c3]
      · obtain ⟨-, a1, -, a2, -⟩ := ho c3
        rw [if_neg c3, if_neg c3, hv (12 * s.1.toNatClampNeg + s.2.toNatClampNeg) (by omega)]
    · rw [if_neg (fun q => c2 (e2.mp q)), if_neg c2]
  · rw [if_neg c1, if_neg c1]
theorem onQ_cong {p : Nat} {s : Int32 × Int32} (hv : ∀ j, j < 96 → v j = w j) (hs : ∀ q, q < 8 → st q = su q) (hp : p < 8) (hst : st p = -1) (ho : OneOk st s) : ∀ n, n ≤ 12 → onQ v few st p n s = onQ w few su p n s := by
  intro n
  induction n with
  | zero => intro _; rw [onQ_0, onQ_0]
  | succ n ih =>
    intro hn
    rw [onQ_s, onQ_s, oneS_cong hv hs hp (by omega) (onQ_ok hp hst ho (by omega)), ih (by omega)]
theorem oneP_cong {n0 : Nat} (h0 : n0 ≤ 12) (hv : ∀ j, j < 96 → v j = w j) (hs : ∀ q, q < 8 → st q = su q) : ∀ n, n ≤ 8 → oneP v few st n0 n = oneP w few su n0 n := by
  intro n
  induction n with
  | zero => intro _; rw [oneP_0, oneP_0]
  | succ n ih =>
    intro hn
    rw [oneP_s, oneP_s, ← ih (by omega)]
    unfold oneI
    rw [← hs n (by omega)]
    by_cases e : st n = -1
    · rw [if_pos e, if_pos e]; exact onQ_cong hv hs (by omega) e (oneP_ok h0 n (by omega)) n0 h0
    · rw [if_neg e, if_neg e]
end TK
abbrev TR (k : Nat) (s u : TX) : Prop := u.2.2.2 = s.2.2.2 ∧ (∀ p, p < 8 → s.1 p = u.1 p) ∧ (∀ p, p < 8 → s.2.1 p = u.2.1 p) ∧ ∀ q, q < k → s.2.2.1 q = u.2.2.1 q
theorem upd_rel {f g : Nat → Int32} {m : Nat} (h : ∀ p, p < m → f p = g p) (k : Nat) (x : Int32) : ∀ p, p < m → upd f k x p = upd g k x p := by
  intro p hp
  show (if p = k then x else f p) = if p = k then x else g p
  rw [h p hp]
theorem takesXL_rel {v w : Nat → Int32} {few : Int32} {n0 n1 : Nat} (h0 : n0 ≤ 12) (h8 : n1 ≤ 8) (hv : ∀ j, j < 96 → v j = w j) : ∀ (f : Nat) (s u : TX) (k : Nat), TxInv s k → TR k s u → ∃ k2, TxInv (takesXL v few n0 n1 f s) k2 ∧ TR k2 (takesXL v few n0 n1 f s) (takesXL w few n0 n1 f u) := by
  intro f
  induction f with
  | zero => exact fun s u k h g => ⟨k, h, g⟩
  | succ f ih =>
    intro s u k h g
    rw [takesXL_s, takesXL_s, ← oneP_cong h0 hv g.2.1 n1 h8]
    by_cases e : (oneP v few s.1 n0 n1).1 = -1
    · rw [if_pos e, if_pos e]; exact ⟨k, h, g⟩
    · rw [if_neg e, if_neg e]
      obtain ⟨i1, i2, -⟩ := txInv_s h (oneP_ok h0 n1 h8) e
      refine ih _ _ (k + 1) i1 ⟨?_, upd_rel g.2.1 _ _, ?_, ?_⟩
      · show u.2.2.2 + 1 = s.2.2.2 + 1
        rw [g.1]
      · show ∀ p, p < 8 → upd s.2.1 (oneP v few s.1 n0 n1).1.toNatClampNeg s.2.2.2 p = upd u.2.1 (oneP v few s.1 n0 n1).1.toNatClampNeg u.2.2.2 p
        rw [g.1]
        exact upd_rel g.2.2.1 _ _
      · show ∀ q, q < k + 1 → upd s.2.2.1 s.2.2.2.toNatClampNeg (oneP v few s.1 n0 n1).1 q = upd u.2.2.1 u.2.2.2.toNatClampNeg (oneP v few s.1 n0 n1).1 q
        rw [g.1, h.1, tn_nI (by omega)]
        intro q hq
        show (if q = k then (oneP v few s.1 n0 n1).1 else s.2.2.1 q) = if q = k then (oneP v few s.1 n0 n1).1 else u.2.2.1 q
        by_cases eq : q = k
        · rw [if_pos eq, if_pos eq]
        · rw [if_neg eq, if_neg eq]; exact g.2.2.2 q (by omega)
theorem takes_rel {v w : Nat → Int32} {few : Int32} {n0 n1 : Nat} (h0 : n0 ≤ 12) (h8 : n1 ≤ 8) (hv : ∀ j, j < 96 → v j = w j) (s u : TX) : ∃ k, TxInv (takesX v few n0 n1 s) k ∧ TR k (takesX v few n0 n1 s) (takesX w few n0 n1 u) :=
  takesXL_rel h0 h8 hv 8 _ _ 0 (txInv_0 _ _ _) ⟨rfl, fun p hp => (noneF_at _ 8 p hp).trans (noneF_at _ 8 p hp).symm, fun p hp => (noneF_at _ 8 p hp).trans (noneF_at _ 8 p hp).symm, fun q hq => by omega⟩
/-! arms, places -/
theorem lay_rel (F G : Nat → Int64) (d : Nat → Int32) (b : Nat) : ∀ j, j < 3 → layL F d b j = layL G d b j := fun j hj => by
  match j, hj with
  | 0, _ => rfl
  | 1, _ => rfl
  | 2, _ => rfl
  | j + 3, h => exact absurd h (by omega)
theorem crsL_rel {F G : Nat → Int64} (h : ∀ j, j < 3 → F j = G j) (d : Nat → Int32) (b : Nat) : ∀ j, j < 6 → crsL F d b j = crsL G d b j := fun j hj => by
  have a0 : F (3 * 0 + 0) = G (3 * 0 + 0) := h 0 (by decide)
  have a1 : F (3 * 0 + 1) = G (3 * 0 + 1) := h 1 (by decide)
  have a2 : F (3 * 0 + 2) = G (3 * 0 + 2) := h 2 (by decide)
  unfold crsL
  rw [a0, a1, a2]
  match j, hj with
  | 0, _ => exact h 0 (by decide)
  | 1, _ => exact h 1 (by decide)
  | 2, _ => exact h 2 (by decide)
  | 3, _ => rfl
  | 4, _ => rfl
  | 5, _ => rfl
  | j + 6, h => exact absurd h (by omega)
theorem crsB_rel {F G : Nat → Int64} (h : ∀ j, j < 6 → F j = G j) : ∀ j, j < 9 → crsB F j = crsB G j := fun j hj => by
  have a0 : F (3 * 0 + 0) = G (3 * 0 + 0) := h 0 (by decide)
  have a1 : F (3 * 0 + 1) = G (3 * 0 + 1) := h 1 (by decide)
  have a2 : F (3 * 0 + 2) = G (3 * 0 + 2) := h 2 (by decide)
  have b0 : F (3 * 1 + 0) = G (3 * 1 + 0) := h 3 (by decide)
  have b1 : F (3 * 1 + 1) = G (3 * 1 + 1) := h 4 (by decide)
  have b2 : F (3 * 1 + 2) = G (3 * 1 + 2) := h 5 (by decide)
  unfold crsB
  rw [a0, a1, a2, b0, b1, b2]
  match j, hj with
  | 0, _ => exact h 0 (by decide)
  | 1, _ => exact h 1 (by decide)
  | 2, _ => exact h 2 (by decide)
  | 3, _ => exact h 3 (by decide)
  | 4, _ => exact h 4 (by decide)
  | 5, _ => exact h 5 (by decide)
  | 6, _ => rfl
  | 7, _ => rfl
  | 8, _ => rfl
  | j + 9, h => exact absurd h (by omega)
theorem arms_rel (F G : Nat → Int64) (d : Nat → Int32) (P Q : Nat) : ∀ j, j < 9 → armsX F d P Q j = armsX G d P Q j := crsB_rel (crsL_rel (lay_rel F G d P) d Q)
section AR
variable {F G F' G' : Nat → Int64}
theorem row_rel (h : ∀ j, j < 9 → F j = F' j) {r : Nat} (hr : r < 3) : ∀ i, i < 3 → rowF F r i = rowF F' r i := fun i hi => h _ (by omega)
theorem dotL_rel {f g f' g' : Nat → Int64} (h1 : ∀ i, i < 3 → f i = f' i) (h2 : ∀ i, i < 3 → g i = g' i) : dotL f g = dotL f' g' := by
  unfold dotL
  rw [h1 0 (by decide), h1 1 (by decide), h1 2 (by decide), h2 0 (by decide), h2 1 (by decide), h2 2 (by decide)]
theorem dotB_rel {g g' : Nat → Int64} (d : Nat → Int32) (b : Nat) (h2 : ∀ i, i < 3 → g i = g' i) : dotB d b g = dotB d b g' := by
  unfold dotB
  rw [h2 0 (by decide), h2 1 (by decide), h2 2 (by decide)]
theorem crd_rel (hF : ∀ j, j < 9 → F j = F' j) (hG : ∀ j, j < 9 → G j = G' j) (d : Nat → Int32) (P : Nat) {k : Nat} (hk : k < 3) : crdX d P F G k = crdX d P F' G' k := by
  unfold crdX sumX
  rw [dotB_rel d P (row_rel hF (r := 0) (by decide)), dotB_rel d P (row_rel hF (r := 1) (by decide)), dotB_rel d P (row_rel hF (r := 2) (by decide)), hG (3 * 0 + k) (by omega), hG (3 * 1 + k) (by omega), hG (3 * 2 + k) (by omega),
    show sq F 0 = sq F' 0 from dotL_rel (row_rel hF (r := 0) (by decide)) (row_rel hF (r := 0) (by decide)), show sq F 1 = sq F' 1 from dotL_rel (row_rel hF (r := 1) (by decide)) (row_rel hF (r := 1) (by decide))]
theorem plcs_rel (hF : ∀ j, j < 9 → F j = F' j) (hG : ∀ j, j < 9 → G j = G' j) (d : Nat → Int32) (f g : Nat → Int32) : ∀ n, ∀ j, j < 3 * n → plcsX d F G n f j = plcsX d F' G' n g j := by
  intro n
  induction n with
  | zero => intro j hj; omega
  | succ n ih =>
    intro j hj
    have e1 : plcsX d F G (n + 1) f = plcX d F G n (plcsX d F G n f) := by unfold plcsX; exact fz_s _ _ _
    have e2 : plcsX d F' G' (n + 1) g = plcX d F' G' n (plcsX d F' G' n g) := by unfold plcsX; exact fz_s _ _ _
    rw [e1, e2]
    unfold plcX
    rw [crd_rel hF hG d _ (k := 0) (by decide), crd_rel hF hG d _ (k := 1) (by decide), crd_rel hF hG d _ (k := 2) (by decide)]
    show (if j = 3 * n + 2 then _ else if j = 3 * n + 1 then _ else if j = 3 * n + 0 then _ else _) = if j = 3 * n + 2 then _ else if j = 3 * n + 1 then _ else if j = 3 * n + 0 then _ else _
    by_cases c2 : j = 3 * n + 2
    · rw [if_pos c2, if_pos c2]
    · rw [if_neg c2, if_neg c2]
      by_cases c1 : j = 3 * n + 1
      · rw [if_pos c1, if_pos c1]
      · rw [if_neg c1, if_neg c1]
        by_cases c0 : j = 3 * n + 0
        · rw [if_pos c0, if_pos c0]
        · rw [if_neg c0, if_neg c0]
          exact ih j (by omega)
theorem any_rel (hF : ∀ j, j < 9 → F j = F' j) : anyX F ↔ anyX F' := by
  unfold anyX
  rw [dotL_rel (row_rel hF (r := 1) (by decide)) (row_rel hF (r := 1) (by decide))]
end AR
theorem trn_rel {d : Nat → Int32} {n0 n1 k : Nat} {T U : TX} (F G F' G' : Nat → Int64) (f g : Nat → Int32) (h8 : n1 ≤ 8) (hI : TxInv T k) (hR : TR k T U) (h2 : TwoOk n0 n1 T) : (trnT d n0 T F G f).1 = (trnT d n0 U F' G' g).1 ∧ (¬ (trnT d n0 U F' G' g).1 = 0 → ∀ j, j < 3 * n0 → (trnT d n0 T F G f).2.2.2 j = (trnT d n0 U F' G' g).2.2.2 j) := by
  unfold trnT trnX
  rw [hR.1]
  by_cases c : T.2.2.2 ≤ 1
  · rw [if_pos c, if_pos c]
    exact ⟨rfl, fun h => absurd rfl h⟩
  · rw [if_neg c, if_neg c]
    obtain ⟨p0, p1, i0, i1, l0, l1, -, -, e0, e1, -, -⟩ := h2 c
    have hk : 2 ≤ k := by
      rcases Nat.lt_or_ge k 2 with q | q
      · exact absurd (by rw [hI.1]; exact (nI_leI (by omega) (by omega : 1 < 2 ^ 31)).mpr (by omega)) c
      · exact q
    rw [← hR.2.2.2 0 (by omega), ← hR.2.2.2 1 (by omega), e0, e1, tn_nI (by omega), tn_nI (by omega), ← hR.2.1 p0 (by omega), ← hR.2.1 p1 (by omega)]
    have aF := arms_rel F F' d (36 * 0 + 3 * (T.1 p0).toNatClampNeg) (36 * 0 + 3 * (T.1 p1).toNatClampNeg)
    have aG := arms_rel G G' d (36 * 1 + 3 * p0) (36 * 1 + 3 * p1)
    unfold trn2
    by_cases b1 : anyX (armsX F' d (36 * 0 + 3 * (T.1 p0).toNatClampNeg) (36 * 0 + 3 * (T.1 p1).toNatClampNeg))
    · rw [if_pos ((any_rel aF).mpr b1), if_pos b1]
      by_cases b2 : anyX (armsX G' d (36 * 1 + 3 * p0) (36 * 1 + 3 * p1))
      · rw [if_pos ((any_rel aG).mpr b2), if_pos b2]
        exact ⟨rfl, fun _ => plcs_rel aF aG d f g n0⟩
      · rw [if_neg (fun q => b2 ((any_rel aG).mp q)), if_neg b2]
        exact ⟨rfl, fun h => absurd rfl h⟩
    · rw [if_neg (fun q => b1 ((any_rel aF).mp q)), if_neg b1]
      exact ⟨rfl, fun h => absurd rfl h⟩
/-! confirming -/
section CF
variable {d pl pm us ut : Nat → Int32} {near it g : Int32} {n p : Nat}
abbrev SR (p : Nat) (s u : SF) : Prop := ∀ q, q ≤ p → s.1 q = u.1 q ∧ s.2 q = u.2 q
theorem sr_upd {s u : SF} (h : SR p s u) (x y : Int32) : SR p (upd s.1 p x, upd s.2 p y) (upd u.1 p x, upd u.2 p y) := fun q hq =>
  ⟨upd_rel (m := p + 1) (fun z hz => (h z (by omega)).1) p x q (by omega), upd_rel (m := p + 1) (fun z hz => (h z (by omega)).2) p y q (by omega)⟩
theorem far_rel {i : Nat} (hi : i < n) (hpl : ∀ j, j < 3 * n → pl j = pm j) : farX d pl p i = farX d pm p i := by
  unfold farX
  rw [hpl (3 * i + 0) (by omega), hpl (3 * i + 1) (by omega), hpl (3 * i + 2) (by omega)]
theorem cnfS_rel {i : Nat} {s u : SF} (hi : i < n) (hn : n ≤ 12) (hpl : ∀ j, j < 3 * n → pl j = pm j) (hus : ∀ j, j < 12 → us j = ut j) (h : SR p s u) : SR p (cnfS d pl us near p i s) (cnfS d pm ut near p i u) := by
  unfold cnfS
  rw [hus i (by omega), far_rel hi hpl, (h p (Nat.le_refl _)).1, (h p (Nat.le_refl _)).2]
  by_cases c1 : ut i = 0
  · rw [if_pos c1, if_pos c1]
    by_cases c2 : farX d pm p i ≤ near
    · rw [if_pos c2, if_pos c2]
      by_cases c3 : u.1 p = -1
      · rw [if_pos c3, if_pos c3]; exact sr_upd h _ _
      · rw [if_neg c3, if_neg c3]
        by_cases c4 : farX d pm p i < u.2 p
        · rw [if_pos c4, if_pos c4]; exact sr_upd h _ _
        · rw [if_neg c4, if_neg c4]; exact h
    · rw [if_neg c2, if_neg c2]; exact h
  · rw [if_neg c1, if_neg c1]; exact h
theorem cnfJ_rel {s u : SF} (hn : n ≤ 12) (hpl : ¬ it = 0 → ∀ j, j < 3 * n → pl j = pm j) (hus : ∀ j, j < 12 → us j = ut j) (h : ∀ q, q < p → s.1 q = u.1 q ∧ s.2 q = u.2 q) : SR p (cnfJ d pl us near it g n p s) (cnfJ d pm ut near it g n p u) := by
  have h9 : SR p (upd s.1 p (-1), upd s.2 p (-1)) (upd u.1 p (-1), upd u.2 p (-1)) := fun q hq => by
    show (if q = p then _ else s.1 q) = (if q = p then _ else u.1 q) ∧ (if q = p then _ else s.2 q) = if q = p then _ else u.2 q
    by_cases e : q = p
    · rw [if_pos e, if_pos e, if_pos e, if_pos e]; exact ⟨rfl, rfl⟩
    · rw [if_neg e, if_neg e, if_neg e, if_neg e]; exact h q (by omega)
  unfold cnfJ
  by_cases c : okX it g p
  · rw [if_pos c, if_pos c]
    exact fz_rel (R := SR p) n h9 (fun i s u hi h => cnfS_rel hi hn (hpl c.1) hus h)
  · rw [if_neg c, if_neg c]; exact h9
abbrev CRel (m : Nat) (s u : CX) : Prop := (∀ j, j < 12 → s.1 j = u.1 j) ∧ ∀ q, q < m → s.2.1 q = u.2.1 q ∧ s.2.2 q = u.2.2 q
theorem cnfP_rel {s u : CX} (hn : n ≤ 12) (hpl : ¬ it = 0 → ∀ j, j < 3 * n → pl j = pm j) (h : CRel p s u) : CRel (p + 1) (cnfP d pl near it g n p s) (cnfP d pm near it g n p u) := by
  have hj := cnfJ_rel (d := d) (near := near) (g := g) hn hpl h.1 h.2
  have e := (hj p (Nat.le_refl _)).1
  unfold cnfP
  rw [e]
  by_cases c : (cnfJ d pm u.1 near it g n p u.2).1 p = -1
  · rw [if_pos c, if_pos c]
    exact ⟨h.1, fun q hq => hj q (by omega)⟩
  · rw [if_neg c, if_neg c]
    exact ⟨upd_rel h.1 _ _, fun q hq => hj q (by omega)⟩
theorem cnf_rel {s u : CX} (hn : n ≤ 12) (hpl : ¬ it = 0 → ∀ j, j < 3 * n → pl j = pm j) : ∀ m, CRel m (cnfX d pl near it g n m s) (cnfX d pm near it g n m u) := by
  intro m
  induction m with
  | zero => exact ⟨fun j hj => (zerosF_at s.1 12 j hj).trans (zerosF_at u.1 12 j hj).symm, fun q hq => absurd hq (Nat.not_lt_zero q)⟩
  | succ m ih =>
    have e1 : cnfX d pl near it g n (m + 1) s = cnfP d pl near it g n m (cnfX d pl near it g n m s) := by unfold cnfX; exact fz_s _ _ _
    have e2 : cnfX d pm near it g n (m + 1) u = cnfP d pm near it g n m (cnfX d pm near it g n m u) := by unfold cnfX; exact fz_s _ _ _
    rw [e1, e2]
    exact cnfP_rel hn hpl ih
end CF
