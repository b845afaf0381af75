/-! PURE WORDS: taking, turning, confirming, finding -/
/-- of each spot its star, as which one; which stars are used; how many pairs -/
abbrev TK : Type := (Nat → Int32) × (Nat → Int32) × (Nat → Int32) × Int32
def noneF (n : Nat) (f : Nat → Int32) : Nat → Int32 := fz (fun i g => upd g i (-1)) n f
def bestS (v : Nat → Int32) (few : Int32) (st us : Nat → Int32) (code : Nat) (best : Int32) : Int32 :=
  if st (code / 12) = -1 then (if us (code % 12) = 0 then (if few ≤ v code then (if best = -1 then nI code else if v best.toNatClampNeg < v code then nI code else best) else best) else best) else best
def bestF (v : Nat → Int32) (few : Int32) (st us : Nat → Int32) (n : Nat) : Int32 := fz (fun code best => bestS v few st us code best) n (-1)
def asgF (s : TK) (b : Nat) : TK := (upd s.1 (b / 12) (nI (b % 12)), upd s.2.1 (b / 12) s.2.2.2, upd s.2.2.1 (b % 12) 1, s.2.2.2 + 1)
def takesL (v : Nat → Int32) (few : Int32) : Nat → TK → TK
  | 0, s => s
  | f + 1, s => if bestF v few s.1 s.2.2.1 96 = -1 then s else takesL v few f (asgF s (bestF v few s.1 s.2.2.1 96).toNatClampNeg)
theorem takesL_s (v : Nat → Int32) (few : Int32) (f : Nat) (s : TK) : takesL v few (f + 1) s = if bestF v few s.1 s.2.2.1 96 = -1 then s else takesL v few f (asgF s (bestF v few s.1 s.2.2.1 96).toNatClampNeg) := rfl
def takesF (v : Nat → Int32) (few : Int32) (s : TK) : TK := takesL v few 8 (noneF 8 s.1, noneF 8 s.2.1, zerosF 12 s.2.2.1, 0)
/-- what is best is none, or a free code -/
def BestOk (v : Nat → Int32) (few : Int32) (st us : Nat → Int32) (n : Nat) (b : Int32) : Prop := b = -1 ∨ ∃ c : Nat, c < n ∧ b = nI c ∧ st (c / 12) = -1 ∧ us (c % 12) = 0 ∧ few ≤ v c
theorem bestF_ok (v : Nat → Int32) (few : Int32) (st us : Nat → Int32) (n : Nat) : BestOk v few st us n (bestF v few st us n) := by
  induction n with
  | zero => exact Or.inl rfl
  | succ n ih =>
    have keep : BestOk v few st us (n + 1) (bestF v few st us n) := by
      rcases ih with h | ⟨c, h1, h2⟩
      · exact Or.inl h
      · exact Or.inr ⟨c, by omega, h2⟩
    show BestOk v few st us (n + 1) (bestS v few st us n (bestF v few st us n))
    unfold bestS
    by_cases h1 : st (n / 12) = -1
    · rw [if_pos h1]
      by_cases h2 : us (n % 12) = 0
      · rw [if_pos h2]
        by_cases h3 : few ≤ v n
        · rw [if_pos h3]
          have here : BestOk v few st us (n + 1) (nI n) := Or.inr ⟨n, by omega, rfl, h1, h2, h3⟩
          by_cases h4 : bestF v few st us n = -1
          · rw [if_pos h4]; exact here
          · rw [if_neg h4]
            by_cases h5 : v (bestF v few st us n).toNatClampNeg < v n
            · rw [if_pos h5]; exact here
            · rw [if_neg h5]; exact keep
        · rw [if_neg h3]; exact keep
      · rw [if_neg h2]; exact keep
    · rw [if_neg h1]; exact keep
theorem bestF_nat {v : Nat → Int32} {few : Int32} {st us : Nat → Int32} {n : Nat} (hn : n ≤ 96) (h : ¬ bestF v few st us n = -1) : bestF v few st us n = nI (bestF v few st us n).toNatClampNeg ∧ (bestF v few st us n).toNatClampNeg < n ∧ st ((bestF v few st us n).toNatClampNeg / 12) = -1 ∧ us ((bestF v few st us n).toNatClampNeg % 12) = 0 ∧ few ≤ v (bestF v few st us n).toNatClampNeg := by
  rcases bestF_ok v few st us n with h1 | ⟨c, h1, h2, h3⟩
  · exact absurd h1 h
  · rw [h2, tn_nI (by omega)]
    exact ⟨rfl, h1, h3⟩
def freeN (st : Nat → Int32) (n : Nat) : Nat := fz (fun p k => if st p = -1 then k + 1 else k) n 0
theorem freeN_s (st : Nat → Int32) (n : Nat) : freeN st (n + 1) = if st n = -1 then freeN st n + 1 else freeN st n := rfl
theorem freeN_0 {st : Nat → Int32} {n : Nat} (h : freeN st n = 0) : ∀ p, p < n → ¬ st p = -1 := by
  induction n with
  | zero => intro p hp; omega
  | succ n ih =>
    rw [freeN_s] at h
    by_cases hn : st n = -1
    · rw [if_pos hn] at h; omega
    · rw [if_neg hn] at h
      intro p hp
      by_cases e : p = n
      · rw [e]; exact hn
      · exact ih h p (by omega)
theorem freeN_upd {st : Nat → Int32} {p : Nat} {x : Int32} (hx : ¬ x = -1) (n : Nat) : (p < n → st p = -1 → freeN (upd st p x) n + 1 = freeN st n) ∧ (n ≤ p → freeN (upd st p x) n = freeN st n) := by
  induction n with
  | zero => exact ⟨fun h => by omega, fun _ => rfl⟩
  | succ n ih =>
    rw [freeN_s, freeN_s]
    refine ⟨fun h hs => ?_, fun h => ?_⟩
    · by_cases e : p = n
      · subst e
        rw [show upd st p x p = x by simp [upd], if_neg hx, if_pos hs, ih.2 (Nat.le_refl _)]
      · rw [show upd st p x n = st n by simp [upd, Ne.symm e]]
        have := ih.1 (by omega) hs
        by_cases q : st n = -1
        · rw [if_pos q, if_pos q]; omega
        · rw [if_neg q, if_neg q]; exact this
    · rw [show upd st p x n = st n by simp [upd, show n ≠ p by omega], ih.2 (by omega)]
theorem freeN_le (st : Nat → Int32) (n : Nat) : freeN st n ≤ n := by
  induction n with
  | zero => exact Nat.le_refl _
  | succ n ih => rw [freeN_s]; split <;> omega
theorem nI_nm1 {n : Nat} (h : n < 2 ^ 31) : ¬ nI n = -1 := by
  intro e
  have := congrArg Int32.toInt e
  rw [nI_toInt h] at this
  have h2 : (-1 : Int32).toInt = -1 := rfl
  omega
theorem best_none {v : Nat → Int32} {few : Int32} {st us : Nat → Int32} (h : freeN st 8 = 0) : bestF v few st us 96 = -1 := by
  rcases bestF_ok v few st us 96 with h1 | ⟨c, h1, -, h3, -⟩
  · exact h1
  · exact absurd h3 (freeN_0 h _ (by omega))
/-- the turn: whether, arms of stars, of spots, their squares, places -/
abbrev TN : Type := Int32 × (Nat → Int64) × (Nat → Int64) × (Nat → Int64) × (Nat → Int32)
def multF (x y z : Nat) (w : Nat → Int64) : Nat → Int64 :=
  let w1 := vp_updL w z (w (x + 1) * w (y + 2) - w (x + 2) * w (y + 1))
  let w2 := vp_updL w1 (z + 1) (w1 (x + 2) * w1 y - w1 x * w1 (y + 2))
  vp_updL w2 (z + 2) (w2 x * w2 (y + 1) - w2 (x + 1) * w2 y)
def armsF (d : Nat → Int32) (P Q : Nat) (w : Nat → Int64) : Nat → Int64 :=
  multF 0 3 6 (multF 0 6 3 (vp_updL (vp_updL (vp_updL (vp_updL (vp_updL (vp_updL w 0 (d (P + 0)).toInt64) 6 (d (Q + 0)).toInt64) 1 (d (P + 1)).toInt64) 7 (d (Q + 1)).toInt64) 2 (d (P + 2)).toInt64) 8 (d (Q + 2)).toInt64))
def nearF (x y : Int64) : Int64 := if (2 * x + y) - (2 * x + y) / (2 * y) * (2 * y) < 0 then (2 * x + y) / (2 * y) - 1 else (2 * x + y) / (2 * y)
def byF (d : Nat → Int32) (P : Nat) (A : Nat → Int64) (x y z : Nat) : Int64 := 0 + (d (P + 0)).toInt64 * A x + (d (P + 1)).toInt64 * A y + (d (P + 2)).toInt64 * A z
def sumF (d : Nat → Int32) (P : Nat) (A B S : Nat → Int64) (u : Nat) : Int64 :=
  0 + byF d P A 0 1 2 * B (0 + u) * S 1 + byF d P A 3 4 5 * B (3 + u) * S 0 + byF d P A 6 7 8 * B (6 + u) * 1
def coordF (d : Nat → Int32) (P : Nat) (A B S : Nat → Int64) (u : Nat) : Int32 := (nearF (sumF d P A B S u) (S 2)).toInt32
def spotF (rk : Nat → Int32) (x : Int32) (n : Nat) : Int32 := fz (fun p s => if rk p = x then nI p else s) n (-1)
abbrev nonP (w : Nat → Int64) : Prop := w 3 = 0 ∧ w 4 = 0 ∧ w 5 = 0
def selS (A : Nat → Int64) (f j : Nat) (s : Nat → Int64) : Nat → Int64 := vp_updL s f (s f + A j * A j)
def selfF (A S : Nat → Int64) : Nat → Int64 :=
  selS A 2 8 (selS A 2 7 (selS A 2 6 (vp_updL (selS A 1 5 (selS A 1 4 (selS A 1 3 (vp_updL (selS A 0 2 (selS A 0 1 (selS A 0 0 (vp_updL S 0 0)))) 1 0)))) 2 0)))
def placesF (d : Nat → Int32) (A B S : Nat → Int64) (n : Nat) (f : Nat → Int32) : Nat → Int32 := fz (fun i g => upd g i (coordF d (36 * 0 + 3 * (i / 3)) A B S (i % 3))) n f
def turn2 (d : Nat → Int32) (n : Nat) (A B S : Nat → Int64) (f : Nat → Int32) : TN :=
  if ¬ nonP B then (if ¬ nonP A then (1, A, B, selfF A S, placesF d A B (selfF A S) (3 * n) f) else (0, A, B, selfF A S, f)) else (0, A, B, selfF A S, f)
def turnF (d : Nat → Int32) (n : Nat) (st rk : Nat → Int32) (pairs : Int32) (A B S : Nat → Int64) (f : Nat → Int32) : TN :=
  if pairs ≤ 1 then (0, A, B, S, f) else
  turn2 d n (armsF d (36 * 0 + 3 * (st (spotF rk 0 8).toNatClampNeg).toNatClampNeg) (36 * 0 + 3 * (st (spotF rk 1 8).toNatClampNeg).toNatClampNeg) A) (armsF d (36 * 1 + 3 * (spotF rk 0 8).toNatClampNeg) (36 * 1 + 3 * (spotF rk 1 8).toNatClampNeg) B) S f
/-- confirming: how many, stars used, of each spot its star, how far -/
abbrev CF : Type := Int32 × (Nat → Int32) × (Nat → Int32) × (Nat → Int32)
def farF (d : Nat → Int32) (pl : Nat → Int32) (p i : Nat) : Int32 := 0 + apartF (d (36 * 1 + 3 * p + 0)) (pl (3 * i + 0)) + apartF (d (36 * 1 + 3 * p + 1)) (pl (3 * i + 1)) + apartF (d (36 * 1 + 3 * p + 2)) (pl (3 * i + 2))
abbrev SF : Type := (Nat → Int32) × (Nat → Int32)
def confS (d : Nat → Int32) (pl us : Nat → Int32) (near : Int32) (p i : Nat) (s : SF) : SF :=
  if us i = 0 then (if farF d pl p i ≤ near then (if s.1 p = -1 then (upd s.1 p (nI i), upd s.2 p (farF d pl p i)) else if farF d pl p i < s.2 p then (upd s.1 p (nI i), upd s.2 p (farF d pl p i)) else s) else s) else s
def confI (d : Nat → Int32) (pl us : Nat → Int32) (near : Int32) (p n : Nat) (s : SF) : SF := fz (fun i s => confS d pl us near p i s) n s
abbrev okP (it g : Int32) (n1 p : Nat) : Prop := ¬ it = 0 ∧ p < n1 ∧ ¬ nI p = g
def confJ (d : Nat → Int32) (pl us : Nat → Int32) (near it g : Int32) (n n1 p : Nat) (s : SF) : SF :=
  if okP it g n1 p then confI d pl us near p n (upd s.1 p (-1), upd s.2 p (-1)) else (upd s.1 p (-1), upd s.2 p (-1))
def confP (d : Nat → Int32) (pl : Nat → Int32) (near it g : Int32) (n n1 p : Nat) (s : CF) : CF :=
  if (confJ d pl s.2.1 near it g n n1 p s.2.2).1 p = -1 then (s.1, s.2.1, (confJ d pl s.2.1 near it g n n1 p s.2.2).1, (confJ d pl s.2.1 near it g n n1 p s.2.2).2) else
  (s.1 + 1, upd s.2.1 ((confJ d pl s.2.1 near it g n n1 p s.2.2).1 p).toNatClampNeg 1, (confJ d pl s.2.1 near it g n n1 p s.2.2).1, (confJ d pl s.2.1 near it g n n1 p s.2.2).2)
def confF (d : Nat → Int32) (pl : Nat → Int32) (near it g : Int32) (n n1 : Nat) (s : CF) : CF := fz (fun p s => confP d pl near it g n n1 p s) 8 (0, zerosF 12 s.2.1, s.2.2)
theorem confI_ok (d : Nat → Int32) (pl us : Nat → Int32) (near : Int32) (p n : Nat) (s : SF) (h : s.1 p = -1) : (confI d pl us near p n s).1 p = -1 ∨ ∃ i : Nat, i < n ∧ (confI d pl us near p n s).1 p = nI i := by
  induction n with
  | zero => exact Or.inl h
  | succ n ih =>
    have keep : (confI d pl us near p n s).1 p = -1 ∨ ∃ i : Nat, i < n + 1 ∧ (confI d pl us near p n s).1 p = nI i := by
      rcases ih with h1 | ⟨c, h1, h2⟩
      · exact Or.inl h1
      · exact Or.inr ⟨c, by omega, h2⟩
    show (confS d pl us near p n (confI d pl us near p n s)).1 p = -1 ∨ ∃ i : Nat, i < n + 1 ∧ (confS d pl us near p n (confI d pl us near p n s)).1 p = nI i
    have here : upd (confI d pl us near p n s).1 p (nI n) p = -1 ∨ ∃ i : Nat, i < n + 1 ∧ upd (confI d pl us near p n s).1 p (nI n) p = nI i := Or.inr ⟨n, by omega, by simp [upd]⟩
    unfold confS
    split
    · split
      · split
        · exact here
        · split
          · exact here
          · exact keep
      · exact keep
    · exact keep
theorem confJ_ok (d : Nat → Int32) (pl us : Nat → Int32) (near it g : Int32) (n n1 p : Nat) (s : SF) : (confJ d pl us near it g n n1 p s).1 p = -1 ∨ ∃ i : Nat, i < n ∧ (confJ d pl us near it g n n1 p s).1 p = nI i := by
  have h : upd s.1 p (-1) p = -1 := by simp [upd]
  unfold confJ
  split
  · exact confI_ok d pl us near p n _ h
  · exact Or.inl h
