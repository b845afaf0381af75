/-! PURE WORDS of the tracker: keys, votes -/
abbrev keyW (f : Nat → Int32) (x y z : Int32) : Nat → Int32 := upd (upd (upd f 0 x) 1 y) 2 z
abbrev allP (f g : Nat → Int32) : Prop := nrP (f 0) (g 0) ∧ nrP (f 1) (g 1) ∧ nrP (f 2) (g 2)
theorem keyX_min (p q r : Int32) : minX p (minX r q) = lesF p (lesF q r) := by
  unfold minX lesF
  simp only [Int32.lt_iff_toInt_lt]
  by_cases h1 : q.toInt < r.toInt
  · rw [if_pos h1]
    by_cases h2 : p.toInt < q.toInt
    · rw [if_neg (by omega), if_pos h2]
    · rw [if_neg h2]
      by_cases h3 : q.toInt < p.toInt
      · rw [if_pos h3]
      · rw [if_neg h3]; exact Int32.toInt_inj.mp (by omega)
  · rw [if_neg h1]
    by_cases h2 : p.toInt < r.toInt
    · rw [if_neg (by omega), if_pos h2]
    · rw [if_neg h2]
      by_cases h3 : r.toInt < p.toInt
      · rw [if_pos h3]
      · rw [if_neg h3]; exact Int32.toInt_inj.mp (by omega)
theorem keyX_max (p q r : Int32) : maxX p (maxX r q) = greF p (greF q r) := by
  unfold maxX greF
  simp only [Int32.lt_iff_toInt_lt]
  by_cases h1 : r.toInt < q.toInt
  · rw [if_pos h1]
    by_cases h2 : q.toInt < p.toInt
    · rw [if_neg (by omega), if_pos h2]
    · rw [if_neg h2]
      by_cases h3 : p.toInt < q.toInt
      · rw [if_pos h3]
      · rw [if_neg h3]; exact Int32.toInt_inj.mp (by omega)
  · rw [if_neg h1]
    by_cases h2 : r.toInt < p.toInt
    · rw [if_neg (by omega), if_pos h2]
    · rw [if_neg h2]
      by_cases h3 : p.toInt < r.toInt
      · rw [if_pos h3]
      · rw [if_neg h3]; exact Int32.toInt_inj.mp (by omega)
theorem kx_0 (d : Nat → Int32) (b : Int32) (P Q R : Nat) : minX (sideF d P Q) (minX (sideF d Q R) (sideF d P R)) / b = keyF d b P Q R 0 := by
  rw [keyX_min]
  unfold keyF
  rw [if_pos rfl]
theorem kx_2 (d : Nat → Int32) (b : Int32) (P Q R : Nat) : maxX (sideF d P Q) (maxX (sideF d Q R) (sideF d P R)) / b = keyF d b P Q R 2 := by
  rw [keyX_max]
  unfold keyF
  rw [if_neg (by decide), if_pos rfl]
theorem kx_1 (d : Nat → Int32) (b : Int32) (P Q R : Nat) : (sideF d P Q + sideF d Q R + sideF d P R - minX (sideF d P Q) (minX (sideF d Q R) (sideF d P R)) - maxX (sideF d P Q) (maxX (sideF d Q R) (sideF d P R))) / b = keyF d b P Q R 1 := by
  rw [keyX_min, keyX_max, show sideF d P Q + sideF d Q R + sideF d P R = sideF d P Q + sideF d P R + sideF d Q R by rw [Int32.add_assoc, Int32.add_comm (sideF d Q R), ← Int32.add_assoc]]
  unfold keyF
  rw [if_neg (by decide), if_neg (by decide)]
abbrev likX (d : Nat → Int32) (tol : Int32) (p q i j : Nat) : Prop := fitP tol (sideF d (36 * 1 + 3 * p) (36 * 1 + 3 * q)) (sideF d (36 * 0 + 3 * i) (36 * 0 + 3 * j))
def triesX (d : Nat → Int32) (tol : Int32) (p q r i j k : Nat) (s : VS) : VS :=
  if likX d tol p q i j then (if likX d tol q r j k then (if likX d tol p r i k then (s.1, s.2.1 + 1, bumpF (bumpF (bumpF s.2.2 (12 * p + i)) (12 * q + j)) (12 * r + k)) else s) else s) else s
abbrev nerX (d : Nat → Int32) (b : Int32) (p q r i j k : Nat) : Prop := nrP (keyF d b (36 * 1 + 3 * p) (36 * 1 + 3 * q) (36 * 1 + 3 * r) 0) (keyF d b (36 * 0 + 3 * i) (36 * 0 + 3 * j) (36 * 0 + 3 * k) 0) ∧ nrP (keyF d b (36 * 1 + 3 * p) (36 * 1 + 3 * q) (36 * 1 + 3 * r) 1) (keyF d b (36 * 0 + 3 * i) (36 * 0 + 3 * j) (36 * 0 + 3 * k) 1) ∧ nrP (keyF d b (36 * 1 + 3 * p) (36 * 1 + 3 * q) (36 * 1 + 3 * r) 2) (keyF d b (36 * 0 + 3 * i) (36 * 0 + 3 * j) (36 * 0 + 3 * k) 2)
def sixX (d : Nat → Int32) (tol : Int32) (p q r i j k : Nat) (s : VS) : VS :=
  triesX d tol p q r k j i (triesX d tol p q r k i j (triesX d tol p q r j k i (triesX d tol p q r j i k (triesX d tol p q r i k j (triesX d tol p q r i j k s)))))
def meetsX (d : Nat → Int32) (b tol : Int32) (p q r i j k : Nat) (s : VS) : VS := if nerX d b p q r i j k then sixX d tol p q r i j k (s.1 + 1, s.2.1, s.2.2) else s
def looksX3 (d : Nat → Int32) (b tol : Int32) (n p q r i j : Nat) (s : VS) : VS := fr (fun k s => meetsX d b tol p q r i j k s) (j + 1) (n - (j + 1)) s
def looksX2 (d : Nat → Int32) (b tol : Int32) (n p q r i : Nat) (s : VS) : VS := fr (fun j s => looksX3 d b tol n p q r i j s) (i + 1) (n - (i + 1)) s
def looksX (d : Nat → Int32) (b tol : Int32) (n p q r : Nat) (s : VS) : VS := fz (fun i s => looksX2 d b tol n p q r i s) n s
def votesX4 (d : Nat → Int32) (b tol g : Int32) (n p q r : Nat) (s : VS) : VS := if nI p = g then s else if nI q = g then s else if nI r = g then s else looksX d b tol n p q r s
def votesX3 (d : Nat → Int32) (b tol g : Int32) (n n1 p q : Nat) (s : VS) : VS := fr (fun r s => votesX4 d b tol g n p q r s) (q + 1) (n1 - (q + 1)) s
def votesX2 (d : Nat → Int32) (b tol g : Int32) (n n1 p : Nat) (s : VS) : VS := fr (fun q s => votesX3 d b tol g n n1 p q s) (p + 1) (n1 - (p + 1)) s
def votesX (d : Nat → Int32) (b tol g : Int32) (n n1 : Nat) (v : Nat → Int32) : VS := fz (fun p s => votesX2 d b tol g n n1 p s) n1 (0, 0, zerosF 96 v)
theorem sideR_in {many dir : Nat → Int32} {k i j : Nat} (hM : Mok many) (hk : k < 2) (hi : i < nK many k) (hj : j < nK many k) : sideR many dir (nI k) (nI i) (nI j) = sideF dir (36 * k + 3 * i) (36 * k + 3 * j) := by
  have hm := (hM k hk).2
  have hx := mx_le hk
  have ek : (nI k).toNatClampNeg = k := tn_nI (by omega)
  have ei : (nI i).toNatClampNeg = i := tn_nI (by omega)
  have ej : (nI j).toNatClampNeg = j := tn_nI (by omega)
  have hr : rng (nI k) 0 1 := rng_nI (n := 1) (by omega)
  have h1 : thP many (nI k) (nI i) := ⟨hr, by rw [nI_toInt (by omega)]; omega, by rw [nI_toInt (by omega), ek]; omega⟩
  have h2 : thP many (nI k) (nI j) := ⟨hr, by rw [nI_toInt (by omega)]; omega, by rw [nI_toInt (by omega), ek]; omega⟩
  unfold sideR
  rw [if_pos h1, if_pos h2, ek, ei, ej]
theorem allP_W {f g : Nat → Int32} {x y z u v w : Int32} (h0 : f 0 = x) (h1 : f 1 = y) (h2 : f 2 = z) : allP f (keyW g u v w) ↔ (nrP x u ∧ nrP y v ∧ nrP z w) := by
  subst h0; subst h1; subst h2
  exact Iff.rfl
theorem zerosF_s (n : Nat) (v : Nat → Int32) : zerosF (n + 1) v = upd (zerosF n v) n 0 := rfl
theorem va_P_push {D : va_G} {cl : List vw_C} {ws : va_W} {H : Heap} (h : va_P D cl ws H) (c : Cell) : va_P D cl ws (H.push c) :=
  h.kept fun k q hk => by rw [Array.getElem?_push, if_neg (Nat.ne_of_lt (h k q hk).lt)]
theorem va_S9 {A B : Nat → Prop} {H0 H1 H : Heap} {locs : List Loc} (h : va_S A H0 H1 []) (g : va_S B H1 H locs) (hs : ∀ q, B q → A q) : va_S A H0 H locs :=
  ⟨Nat.le_trans h.1 g.1, fun q h1 h2 => (g.2.1 q (Nat.lt_of_lt_of_le h1 h.1) (fun z => h2 (hs q z))).trans (h.2.1 q h1 h2), fun q hq => hs _ (g.2.2 q hq)⟩
section XV
variable {t : Nat → ClassId} {a : Nat → Nat} {G : va_G} {A : Nat → Prop} {cs : Nat → ClassId} {s : State} {K : XK} {many : (Nat → Int32)} {settings : (Nat → Int32)} {isVoted : Int32} {lotsNow : Int32} {seen : (Nat → Int32)} {keyOne : (Nat → Int32)} {keyTwo : (Nat → Int32)} {votes : (Nat → Int32)} {looked : Int32} {matched : Int32} {without : Int32} {trio : (Nat → Int32)} {takenStar : (Nat → Int32)} {takenAs : (Nat → Int32)} {takenSpot : (Nat → Int32)} {pairs : Int32} {starArms : (Nat → Int64)} {spotArms : (Nat → Int64)} {isTurn : Int32} {places : (Nat → Int32)} {byStar : (Nat → Int32)} {byFar : (Nat → Int32)} {one : (Nat → Int64)} {usedNow : (Nat → Int32)} {laidMany : (Nat → Int32)} {finding : Int32}
/-- behind the making of a Fit object -/
theorem xv_begin {tol : Int32} {H1 : Heap} (hH : s.heap.push ({ cls := cs 0, slots := [Value.int tol].toArray, vm := .none } : Cell) = H1) (hP : va_P G vwCl (Xx t a K many settings isVoted lotsNow seen keyOne keyTwo votes looked matched without trio takenStar takenAs takenSpot pairs starArms spotArms isTurn places byStar byFar one usedNow laidMany finding) s.heap) (hD : XD A a K.L) (hA : ∀ q, s.heap.size ≤ q → A q) (hE : xE A a cs s s.heap) :
    ∃ B : Nat → Prop, (∀ q, B q → A q) ∧ va_P G vwCl (Xx t a K many settings isVoted lotsNow seen keyOne keyTwo votes looked matched without trio takenStar takenAs takenSpot pairs starArms spotArms isTurn places byStar byFar one usedNow laidMany finding) H1 ∧ XD B a K.L ∧ (∀ q, H1.size ≤ q → B q) ∧ xE B a cs s H1 ∧ xl_C s.heap.size (cs 0) [.int tol] B H1 ∧ va_S A s.heap H1 [] := by
  have z1 : H1.size = s.heap.size + 1 := by rw [← hH, Array.size_push]
  have hS : va_S A s.heap H1 [] := ⟨by omega, fun q h1 h2 => by rw [← hH, Array.getElem?_push, if_neg (Nat.ne_of_lt h1)], fun _ h => by cases h⟩
  have hP1 : va_P G vwCl (Xx t a K many settings isVoted lotsNow seen keyOne keyTwo votes looked matched without trio takenStar takenAs takenSpot pairs starArms spotArms isTurn places byStar byFar one usedNow laidMany finding) H1 := by rw [← hH]; exact va_P_push hP _
  have hlt : ∀ x ∈ Xa a K.L, x < s.heap.size := by
    intro x hx
    rw [← xx_adr (t := t) (a := a) (K := K) (many := many) (settings := settings) (isVoted := isVoted) (lotsNow := lotsNow) (seen := seen) (keyOne := keyOne) (keyTwo := keyTwo) (votes := votes) (looked := looked) (matched := matched) (without := without) (trio := trio) (takenStar := takenStar) (takenAs := takenAs) (takenSpot := takenSpot) (pairs := pairs) (starArms := starArms) (spotArms := spotArms) (isTurn := isTurn) (places := places) (byStar := byStar) (byFar := byFar) (one := one) (usedNow := usedNow) (laidMany := laidMany) (finding := finding)] at hx
    obtain ⟨q, hq, rfl⟩ := List.mem_map.mp hx
    obtain ⟨k, hk⟩ := List.getElem?_of_mem hq
    exact (hP k q hk).lt
  refine ⟨fun q => A q ∧ q ≠ s.heap.size, fun q h => h.1, hP1, ⟨hD.1, fun x hx => ⟨hD.2 x hx, Nat.ne_of_lt (hlt x hx)⟩⟩, fun q hq => ⟨hA q (by omega), by omega⟩, ?_, ⟨?_, fun h => h.2 rfl⟩, hS⟩
  · exact (hE.warm (State.WarmedH.refl s) hS).narrow fun q h => h.1
  · rw [← hH, Array.getElem?_push_size]
end XV
