/-! PURE WORDS of the tracker: arms, places, the turn, confirming -/
/-- a row of three -/
abbrev rowF (f : Nat → Int64) (r : Nat) : Nat → Int64 := fun i => f (3 * r + i)
def upd3L (f : Nat → Int64) (o : Nat) (x y z : Int64) : Nat → Int64 := vp_updL (vp_updL (vp_updL f (o + 0) x) (o + 1) y) (o + 2) z
def lay3 (f : Nat → Int64) (d : Nat → Int32) (b : Nat) : Nat → Int64 := vp_updL (vp_updL (vp_updL f 0 (d (b + 0)).toInt64) 1 (d (b + 1)).toInt64) 2 (d (b + 2)).toInt64
def layL (f : Nat → Int64) (d : Nat → Int32) (b : Nat) : Nat → Int64 := upd3L f (3 * 0) (d (b + 0)).toInt64 (d (b + 1)).toInt64 (d (b + 2)).toInt64
def crsA (f g : Nat → Int64) : Nat → Int64 := upd3L f (3 * 1) (f (3 * 0 + 1) * g 2 - f (3 * 0 + 2) * g 1) (f (3 * 0 + 2) * g 0 - f (3 * 0 + 0) * g 2) (f (3 * 0 + 0) * g 1 - f (3 * 0 + 1) * g 0)
def crsB (f : Nat → Int64) : Nat → Int64 := upd3L f (3 * 2) (f (3 * 0 + 1) * f (3 * 1 + 2) - f (3 * 0 + 2) * f (3 * 1 + 1)) (f (3 * 0 + 2) * f (3 * 1 + 0) - f (3 * 0 + 0) * f (3 * 1 + 2)) (f (3 * 0 + 0) * f (3 * 1 + 1) - f (3 * 0 + 1) * f (3 * 1 + 0))
def crsL (f : Nat → Int64) (d : Nat → Int32) (b : Nat) : Nat → Int64 := upd3L f (3 * 1) (f (3 * 0 + 1) * (d (b + 2)).toInt64 - f (3 * 0 + 2) * (d (b + 1)).toInt64) (f (3 * 0 + 2) * (d (b + 0)).toInt64 - f (3 * 0 + 0) * (d (b + 2)).toInt64) (f (3 * 0 + 0) * (d (b + 1)).toInt64 - f (3 * 0 + 1) * (d (b + 0)).toInt64)
theorem crsA_lay (f g : Nat → Int64) (d : Nat → Int32) (b : Nat) : crsA f (lay3 g d b) = crsL f d b := rfl
def armsX (f : Nat → Int64) (d : Nat → Int32) (P Q : Nat) : Nat → Int64 := crsB (crsL (layL f d P) d Q)
abbrev anyX (f : Nat → Int64) : Prop := ¬ dotL (rowF f 1) (rowF f 1) = 0
/-- a direction by a row -/
def dotB (d : Nat → Int32) (b : Nat) (g : Nat → Int64) : Int64 := (d (b + 0)).toInt64 * g 0 + (d (b + 1)).toInt64 * g 1 + (d (b + 2)).toInt64 * g 2
theorem dotL_lay (f : Nat → Int64) (d : Nat → Int32) (b : Nat) (g : Nat → Int64) : dotL (lay3 f d b) g = dotB d b g := rfl
abbrev sq (f : Nat → Int64) (r : Nat) : Int64 := dotL (rowF f r) (rowF f r)
def sumX (d : Nat → Int32) (P : Nat) (F G : Nat → Int64) (k : Nat) : Int64 := dotB d P (rowF F 0) * G (3 * 0 + k) * sq F 1 + dotB d P (rowF F 1) * G (3 * 1 + k) * sq F 0 + dotB d P (rowF F 2) * G (3 * 2 + k)
def crdX (d : Nat → Int32) (P : Nat) (F G : Nat → Int64) (k : Nat) : Int32 := (floX (2 * sumX d P F G k + sq F 0 * sq F 1) (2 * (sq F 0 * sq F 1))).toInt32
def plcX (d : Nat → Int32) (F G : Nat → Int64) (i : Nat) (f : Nat → Int32) : Nat → Int32 := upd (upd (upd f (3 * i + 0) (crdX d (36 * 0 + 3 * i) F G 0)) (3 * i + 1) (crdX d (36 * 0 + 3 * i) F G 1)) (3 * i + 2) (crdX d (36 * 0 + 3 * i) F G 2)
def plcsX (d : Nat → Int32) (F G : Nat → Int64) (n : Nat) (f : Nat → Int32) : Nat → Int32 := fz (fun i f => plcX d F G i f) n f
/-- whether there is a turn, arms of stars, of spots, places -/
abbrev TNX : Type := Int32 × (Nat → Int64) × (Nat → Int64) × (Nat → Int32)
def trn2 (d : Nat → Int32) (n : Nat) (F G : Nat → Int64) (f : Nat → Int32) : TNX := if anyX F then (if anyX G then (1, F, G, plcsX d F G n f) else (0, F, G, f)) else (0, F, G, f)
def trnX (d : Nat → Int32) (n : Nat) (prs : Int32) (p0 p1 i0 i1 : Nat) (F G : Nat → Int64) (f : Nat → Int32) : TNX :=
  if prs ≤ 1 then (0, F, G, f) else trn2 d n (armsX F d (36 * 0 + 3 * i0) (36 * 0 + 3 * i1)) (armsX G d (36 * 1 + 3 * p0) (36 * 1 + 3 * p1)) f
/-- squares that are not none multiply to what is not none -/
def ArmX (d many : Nat → Int32) : Prop := ∀ (i j : Nat) (f : Nat → Int64), i < nK many 0 → j < nK many 0 → anyX (armsX f d (36 * 0 + 3 * i) (36 * 0 + 3 * j)) → ¬ (2 : Int64) * (sq (armsX f d (36 * 0 + 3 * i) (36 * 0 + 3 * j)) 0 * sq (armsX f d (36 * 0 + 3 * i) (36 * 0 + 3 * j)) 1) = 0
def farX (d pl : Nat → Int32) (p i : Nat) : Int32 := 0 + absX (pl (3 * i + 0) - d (36 * 1 + 3 * p + 0)) + absX (pl (3 * i + 1) - d (36 * 1 + 3 * p + 1)) + absX (pl (3 * i + 2) - d (36 * 1 + 3 * p + 2))
def cnfS (d pl us : Nat → Int32) (near : Int32) (p i : Nat) (s : SF) : SF :=
  if us i = 0 then (if farX d pl p i ≤ near then (if s.1 p = -1 then (upd s.1 p (nI i), upd s.2 p (farX d pl p i)) else if farX d pl p i < s.2 p then (upd s.1 p (nI i), upd s.2 p (farX d pl p i)) else s) else s) else s
def cnfI (d pl us : Nat → Int32) (near : Int32) (p n : Nat) (s : SF) : SF := fz (fun i s => cnfS d pl us near p i s) n s
theorem cnfI_s (d pl us : Nat → Int32) (near : Int32) (p n : Nat) (s : SF) : cnfI d pl us near p (n + 1) s = cnfS d pl us near p n (cnfI d pl us near p n s) := rfl
theorem cnfI_0 (d pl us : Nat → Int32) (near : Int32) (p : Nat) (s : SF) : cnfI d pl us near p 0 s = s := rfl
abbrev okX (it g : Int32) (p : Nat) : Prop := ¬ it = 0 ∧ ¬ nI p = g
def cnfJ (d pl us : Nat → Int32) (near it g : Int32) (n p : Nat) (s : SF) : SF :=
  if okX it g p then cnfI d pl us near p n (upd s.1 p (-1), upd s.2 p (-1)) else (upd s.1 p (-1), upd s.2 p (-1))
/-- stars used; of spots their stars, how far -/
abbrev CX : Type := (Nat → Int32) × (Nat → Int32) × (Nat → Int32)
def cnfP (d pl : Nat → Int32) (near it g : Int32) (n p : Nat) (s : CX) : CX :=
  if (cnfJ d pl s.1 near it g n p s.2).1 p = -1 then (s.1, cnfJ d pl s.1 near it g n p s.2) else (upd s.1 ((cnfJ d pl s.1 near it g n p s.2).1 p).toNatClampNeg 1, cnfJ d pl s.1 near it g n p s.2)
def cnfX (d pl : Nat → Int32) (near it g : Int32) (n n1 : Nat) (s : CX) : CX := fz (fun p s => cnfP d pl near it g n p s) n1 (zerosF 12 s.1, s.2)
theorem cnfI_ok (d pl us : Nat → Int32) (near : Int32) (p n : Nat) (s : SF) (h : s.1 p = -1) : (cnfI d pl us near p n s).1 p = -1 ∨ ∃ i : Nat, i < n ∧ (cnfI d pl us near p n s).1 p = nI i := by
  induction n with
  | zero => exact Or.inl h
  | succ n ih =>
    have keep : (cnfI d pl us near p n s).1 p = -1 ∨ ∃ i : Nat, i < n + 1 ∧ (cnfI d pl us near p n s).1 p = nI i := by
      rcases ih with h1 | ⟨c, h1, h2⟩
      · exact Or.inl h1
      · exact Or.inr ⟨c, by omega, h2⟩
    have here : upd (cnfI d pl us near p n s).1 p (nI n) p = -1 ∨ ∃ i : Nat, i < n + 1 ∧ upd (cnfI d pl us near p n s).1 p (nI n) p = nI i := Or.inr ⟨n, by omega, by simp [upd]⟩
    rw [cnfI_s]
    unfold cnfS
    split
    · split
      · split
        · exact here
        · split
          · exact here
          · exact keep
      · exact keep
    · exact keep
theorem cnfJ_ok (d pl us : Nat → Int32) (near it g : Int32) (n p : Nat) (s : SF) : (cnfJ d pl us near it g n p s).1 p = -1 ∨ ∃ i : Nat, i < n ∧ (cnfJ d pl us near it g n p s).1 p = nI i := by
  have h : upd s.1 p (-1) p = -1 := by simp [upd]
  unfold cnfJ
  split
  · exact cnfI_ok d pl us near p n _ h
  · exact Or.inl h
theorem x_two {D : va_G} {cl : List vw_C} {ws : va_W} {H : Heap} (h : va_P D cl ws H) {i j : Nat} {x y : Nat × va_E} (h1 : ws[i]? = some x) (h2 : ws[j]? = some y) : va_P D cl [x, y] H := by
  intro k q hq
  match k, hq with
  | 0, hq => cases hq; exact h i _ h1
  | 1, hq => cases hq; exact h j _ h2
  | k + 2, hq => cases hq
