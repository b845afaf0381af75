/-! PURE WORDS: seeing, settings, keys, triangles, votes -/
def lotN (d : Int32) : Int32 := 1103515245 * d + 12345
def lotR (d n : Int32) : Int32 := ((lotN d).toUInt32 >>> ((16 : Int32).toUInt32 &&& Int32.toUInt32 31)).toInt32 - ((lotN d).toUInt32 >>> ((16 : Int32).toUInt32 &&& Int32.toUInt32 31)).toInt32 / n * n
/-- a number with its noise, and what is drawn then -/
def noisyF (d v m : Int32) : Int32 × Int32 := if m = 0 then (lesF (greF v (-100)) 100, d) else (lesF (greF (v + lotR d (2 * m + 1) - m) (-100)) 100, lotN d)
abbrev T3 : Type := Int32 × Int32 × Int32
def rotX (v : T3) : T3 := (v.1, -v.2.2, v.2.1)
def rotY (v : T3) : T3 := (v.2.2, v.2.1, -v.1)
def rotZ (v : T3) : T3 := (-v.2.1, v.1, v.2.2)
def rotF (x y z : Int32) (a b c : Nat) : T3 := fz (fun _ => rotZ) c (fz (fun _ => rotY) b (fz (fun _ => rotX) a (x, y, z)))
/-- three numbers with noise, and what is drawn then -/
def noise3 (d : Int32) (v : T3) (m : Int32) : T3 × Int32 :=
  (((noisyF d v.1 m).1, (noisyF (noisyF d v.1 m).2 v.2.1 m).1, (noisyF (noisyF (noisyF d v.1 m).2 v.2.1 m).2 v.2.2 m).1), (noisyF (noisyF (noisyF d v.1 m).2 v.2.1 m).2 v.2.2 m).2)
def wellF (v : T3) : Int32 := if v.1 = 0 ∧ v.2.1 = 0 ∧ v.2.2 = 0 then 1 else v.2.2
/-- one spot seen: directions and what is drawn -/
def seesF (i a b c : Nat) (m : Int32) (s : (Nat → Int32) × Int32) : (Nat → Int32) × Int32 :=
  (laysF s.1 (36 * 1 + 3 * i) (noise3 s.2 (rotF (s.1 (36 * 0 + 3 * i + 0)) (s.1 (36 * 0 + 3 * i + 1)) (s.1 (36 * 0 + 3 * i + 2)) a b c) m).1.1
     (noise3 s.2 (rotF (s.1 (36 * 0 + 3 * i + 0)) (s.1 (36 * 0 + 3 * i + 1)) (s.1 (36 * 0 + 3 * i + 2)) a b c) m).1.2.1
     (wellF (noise3 s.2 (rotF (s.1 (36 * 0 + 3 * i + 0)) (s.1 (36 * 0 + 3 * i + 1)) (s.1 (36 * 0 + 3 * i + 2)) a b c) m).1),
   (noise3 s.2 (rotF (s.1 (36 * 0 + 3 * i + 0)) (s.1 (36 * 0 + 3 * i + 1)) (s.1 (36 * 0 + 3 * i + 2)) a b c) m).2)
def seeF (n a b c : Nat) (m : Int32) (s : (Nat → Int32) × Int32) : (Nat → Int32) × Int32 := fz (fun i s => seesF i a b c m s) n s
def seeK (σ : Sm) (n a b c : Nat) (seed m : Int32) : Int32 × Sm := (nI n, ((σ.s_dir (seeF n a b c m (σ.dir, seed)).1).s_drawn (seeF n a b c m (σ.dir, seed)).2).s_many (upd σ.many 1 (nI n)))
def seeM (σ : Sm) (n a b c seed m : Int32) : Int32 × Sm :=
  if 0 ≤ n.toInt ∧ n.toInt ≤ ((min 8 (nK σ.many 0) : Nat) : Int) then (if rng a 0 3 then (if rng b 0 3 then (if rng c 0 3 then (if rng m 0 3 then seeK σ n.toNatClampNeg a.toNatClampNeg b.toNatClampNeg c.toNatClampNeg seed m else (-2, σ)) else (-2, σ)) else (-2, σ)) else (-2, σ)) else (-2, σ)
def setK (σ : Sm) (w : Nat) (v : Int32) : Int32 × Sm := (σ.settings w, σ.s_settings (upd σ.settings w v))
def setM (σ : Sm) (w v : Int32) : Int32 × Sm :=
  if w = 0 then (if rng v 1 9999 then setK σ 0 v else (-2, σ)) else if w = 1 then (if rng v 0 9999 then setK σ 1 v else (-2, σ)) else
  if w = 2 then (if rng v 1 99 then setK σ 2 v else (-2, σ)) else if w = 3 then (if rng v 0 300 then setK σ 3 v else (-2, σ)) else (-2, σ)
def sideR (many dir : Nat → Int32) (kind i j : Int32) : Int32 := if thP many kind i then (if thP many kind j then sideF dir (36 * kind.toNatClampNeg + 3 * i.toNatClampNeg) (36 * kind.toNatClampNeg + 3 * j.toNatClampNeg) else -2) else -2
/-- the key of a triangle: least, middle, most, each by the bucket -/
def keyF (d : Nat → Int32) (b : Int32) (P Q R : Nat) (k : Int32) : Int32 :=
  (if k = 0 then lesF (sideF d P Q) (lesF (sideF d P R) (sideF d Q R)) else if k = 2 then greF (sideF d P Q) (greF (sideF d P R) (sideF d Q R)) else
   sideF d P Q + sideF d P R + sideF d Q R - lesF (sideF d P Q) (lesF (sideF d P R) (sideF d Q R)) - greF (sideF d P Q) (greF (sideF d P R) (sideF d Q R))) / b
abbrev triP (f : Nat → Int32) (kind i j h : Int32) : Prop := thP f kind i ∧ thP f kind j ∧ thP f kind h ∧ i ≠ j ∧ i ≠ h ∧ j ≠ h
def keyR (many dir settings : Nat → Int32) (kind i j h k : Int32) : Int32 := if triP many kind i j h then (if rng k 0 2 then keyF dir (settings 0) (36 * kind.toNatClampNeg + 3 * i.toNatClampNeg) (36 * kind.toNatClampNeg + 3 * j.toNatClampNeg) (36 * kind.toNatClampNeg + 3 * h.toNatClampNeg) k else -2) else -2
theorem triP_ex {f : Nat → Int32} (hM : Mok f) {kind i j h : Int32} (q : triP f kind i j h) : ∃ k x y z : Nat, k < 2 ∧ x < nK f k ∧ y < nK f k ∧ z < nK f k ∧ nK f k ≤ mxK k ∧ kind = nI k ∧ i = nI x ∧ j = nI y ∧ h = nI z := by
  obtain ⟨h1, h2, h3, -⟩ := q
  obtain ⟨k, x, a1, a2, a3, -, a4, a5⟩ := thP_ex hM h1
  obtain ⟨k2, y, b1, b2, -, -, b4, b5⟩ := thP_ex hM h2
  obtain ⟨k3, z, c1, c2, -, -, c4, c5⟩ := thP_ex hM h3
  have e1 : k2 = k := (nI_eq (by omega) (by omega)).mp (b4.symm.trans a4)
  have e2 : k3 = k := (nI_eq (by omega) (by omega)).mp (c4.symm.trans a4)
  subst e1; subst e2
  exact ⟨k3, x, y, z, a1, a2, b2, c2, a3, a4, a5, b5, c5⟩
theorem les_nI {x y : Int32} {i j : Nat} (hx : x = nI i) (hy : y = nI j) (hi : i < 2 ^ 31) (hj : j < 2 ^ 31) : lesF x y = nI (min i j) := by
  unfold lesF
  rw [hx, hy]
  by_cases h : i < j
  · rw [if_pos ((nI_ltI hi hj).mpr h), Nat.min_eq_left (by omega)]
  · rw [if_neg (fun q => h ((nI_ltI hi hj).mp q)), Nat.min_eq_right (by omega)]
theorem two1_ne : ∀ j, j ≤ 3 → ¬ (2 : Int32) * nI j + 1 = 0 := by decide +kernel
theorem thP_ex2 {f : Nat → Int32} {k : Nat} (hk : k < 2) {i : Int32} (h : thP f (nI k) i) : ∃ j : Nat, j < nK f k ∧ i = nI j := by
  have h2 := h.2
  rw [tn_nI (by omega)] at h2
  exact nat_lt h2.1 h2.2
/-- votes: how many looked at, how many matched, the votes -/
abbrev VS : Type := Int32 × Int32 × (Nat → Int32)
abbrev vsM (σ : Sm) : VS := (σ.lookedAt, σ.mats, σ.votes)
abbrev likeP (d : Nat → Int32) (tol : Int32) (p q i j : Nat) : Prop := apartF (sideF d (36 * 1 + 3 * p) (36 * 1 + 3 * q)) (sideF d (36 * 0 + 3 * i) (36 * 0 + 3 * j)) ≤ tol
def bumpF (v : Nat → Int32) (k : Nat) : Nat → Int32 := upd v k (v k + 1)
def triesF (d : Nat → Int32) (tol : Int32) (p q r i j k : Nat) (s : VS) : VS :=
  if likeP d tol p q i j then (if likeP d tol q r j k then (if likeP d tol p r i k then (s.1, s.2.1 + 1, bumpF (bumpF (bumpF s.2.2 (12 * p + i)) (12 * q + j)) (12 * r + k)) else s) else s) else s
abbrev nearP (d : Nat → Int32) (b : Int32) (p q r i j k : Nat) (n : Int32) : Prop := apartF (keyF d b (36 * 1 + 3 * p) (36 * 1 + 3 * q) (36 * 1 + 3 * r) n) (keyF d b (36 * 0 + 3 * i) (36 * 0 + 3 * j) (36 * 0 + 3 * k) n) ≤ 1
def sixF (d : Nat → Int32) (tol : Int32) (p q r i j k : Nat) (s : VS) : VS :=
  triesF d tol p q r k j i (triesF d tol p q r k i j (triesF d tol p q r j k i (triesF d tol p q r j i k (triesF d tol p q r i k j (triesF d tol p q r i j k s)))))
def meetsF (d : Nat → Int32) (b tol : Int32) (p q r i j k : Nat) (s : VS) : VS :=
  if nearP d b p q r i j k 0 then (if nearP d b p q r i j k 1 then (if nearP d b p q r i j k 2 then sixF d tol p q r i j k (s.1 + 1, s.2.1, s.2.2) else s) else s) else s
def looksF3 (d : Nat → Int32) (b tol : Int32) (n p q r i j : Nat) (s : VS) : VS := fr (fun k s => meetsF d b tol p q r i j k s) (j + 1) (n - (j + 1)) s
def looksF2 (d : Nat → Int32) (b tol : Int32) (n p q r i : Nat) (s : VS) : VS := fr (fun j s => looksF3 d b tol n p q r i j s) (i + 1) (n - (i + 1)) s
def looksF (d : Nat → Int32) (b tol : Int32) (n p q r : Nat) (s : VS) : VS := fz (fun i s => looksF2 d b tol n p q r i s) n s
def votes4 (d : Nat → Int32) (b tol g : Int32) (n p q r : Nat) (s : VS) : VS := if nI p = g then s else if nI q = g then s else if nI r = g then s else looksF d b tol n p q r s
def votes3 (d : Nat → Int32) (b tol g : Int32) (n n1 p q : Nat) (s : VS) : VS := fr (fun r s => votes4 d b tol g n p q r s) (q + 1) (n1 - (q + 1)) s
def votes2 (d : Nat → Int32) (b tol g : Int32) (n n1 p : Nat) (s : VS) : VS := fr (fun q s => votes3 d b tol g n n1 p q s) (p + 1) (n1 - (p + 1)) s
def zerosF (n : Nat) (v : Nat → Int32) : Nat → Int32 := fz (fun i f => upd f i 0) n v
def votesF (d : Nat → Int32) (b tol g : Int32) (n n1 : Nat) (v : Nat → Int32) : VS := fz (fun p s => votes2 d b tol g n n1 p s) n1 (0, 0, zerosF 96 v)
