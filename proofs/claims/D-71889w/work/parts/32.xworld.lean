/-! the tracker's world -/
/-- stars, spots, trays by their addresses; the sheets' forms, rows; the pool: which, what -/
abbrev XK : Type := (Nat → Option Nat) × (Nat → Option Nat) × (Nat → Option Nat) × (Nat → Int32) × (Nat → Option Nat) × List Nat × (Nat → va_E)
abbrev XK.rs (K : XK) : Nat → Option Nat := K.1
abbrev XK.rp (K : XK) : Nat → Option Nat := K.2.1
abbrev XK.rt (K : XK) : Nat → Option Nat := K.2.2.1
abbrev XK.fo (K : XK) : Nat → Int32 := K.2.2.2.1
abbrev XK.ro (K : XK) : Nat → Option Nat := K.2.2.2.2.1
abbrev XK.L (K : XK) : List Nat := K.2.2.2.2.2.1
abbrev XK.f (K : XK) : Nat → va_E := K.2.2.2.2.2.2
def XF (a : Nat → Nat) (isVoted lotsNow looked matched without pairs isTurn finding : Int32) : List Value := [.ref (a 1), .ref (a 63), .ref (a 64), .ref (a 5), .ref (a 8), .ref (a 9), .int isVoted, .int lotsNow, .ref (a 10), .ref (a 11), .ref (a 12), .ref (a 13), .int looked, .int matched, .int without, .ref (a 22), .ref (a 23), .ref (a 24), .ref (a 25), .int pairs, .ref (a 26), .ref (a 30), .int isTurn, .ref (a 34), .ref (a 47), .ref (a 48), .ref (a 49), .ref (a 50), .ref (a 51), .ref (a 52), .ref (a 53), .int finding]
def Xc (t : Nat → ClassId) (a : Nat → Nat) (K : XK) (many : (Nat → Int32)) (settings : (Nat → Int32)) (isVoted : Int32) (lotsNow : Int32) (seen : (Nat → Int32)) (keyOne : (Nat → Int32)) (keyTwo : (Nat → Int32)) (votes : (Nat → Int32)) (looked : Int32) (matched : Int32) (without : Int32) (trio : (Nat → Int32)) (takenStar : (Nat → Int32)) (takenAs : (Nat → Int32)) (takenSpot : (Nat → Int32)) (pairs : Int32) (starArms : (Nat → Int64)) (spotArms : (Nat → Int64)) (isTurn : Int32) (places : (Nat → Int32)) (byStar : (Nat → Int32)) (byFar : (Nat → Int32)) (one : (Nat → Int64)) (usedNow : (Nat → Int32)) (laidMany : (Nat → Int32)) (finding : Int32) : va_W := [(a 0, .inr (0, XF a isVoted lotsNow looked matched without pairs isTurn finding)), (a 1, .inl (t 8, 3, .inr (.inr (.inr (.inr (fun i => some (a (2 + i)))))))), (a 2, .inr (1, [.ref (a 60)])), (a 3, .inr (1, [.ref (a 61)])), (a 4, .inr (1, [.ref (a 62)])), (a 5, .inl (t 10, 2, .inr (.inr (.inr (.inr (fun i => some (a (6 + i)))))))), (a 6, .inl (t 5, 12, .inr (.inr (.inr (.inr (K.rs)))))), (a 7, .inl (t 5, 8, .inr (.inr (.inr (.inr (K.rp)))))), (a 8, .inl (t 0, 2, .inl many)), (a 9, .inl (t 0, 4, .inl settings)), (a 10, .inl (t 0, 3, .inl seen)), (a 11, .inl (t 0, 3, .inl keyOne)), (a 12, .inl (t 0, 3, .inl keyTwo)), (a 13, .inl (t 11, 8, .inr (.inr (.inr (.inr (fun i => some (a (14 + i)))))))), (a 14, .inl (t 0, 12, .inl (fun i => votes (12 * 0 + i)))), (a 15, .inl (t 0, 12, .inl (fun i => votes (12 * 1 + i)))), (a 16, .inl (t 0, 12, .inl (fun i => votes (12 * 2 + i)))), (a 17, .inl (t 0, 12, .inl (fun i => votes (12 * 3 + i)))), (a 18, .inl (t 0, 12, .inl (fun i => votes (12 * 4 + i)))), (a 19, .inl (t 0, 12, .inl (fun i => votes (12 * 5 + i)))), (a 20, .inl (t 0, 12, .inl (fun i => votes (12 * 6 + i)))), (a 21, .inl (t 0, 12, .inl (fun i => votes (12 * 7 + i)))), (a 22, .inl (t 0, 3, .inl trio)), (a 23, .inl (t 0, 8, .inl takenStar)), (a 24, .inl (t 0, 8, .inl takenAs)), (a 25, .inl (t 0, 8, .inl takenSpot)), (a 26, .inl (t 12, 3, .inr (.inr (.inr (.inr (fun i => some (a (27 + i)))))))), (a 27, .inl (t 1, 3, .inr (.inl (fun i => starArms (3 * 0 + i))))), (a 28, .inl (t 1, 3, .inr (.inl (fun i => starArms (3 * 1 + i))))), (a 29, .inl (t 1, 3, .inr (.inl (fun i => starArms (3 * 2 + i))))), (a 30, .inl (t 12, 3, .inr (.inr (.inr (.inr (fun i => some (a (31 + i)))))))), (a 31, .inl (t 1, 3, .inr (.inl (fun i => spotArms (3 * 0 + i))))), (a 32, .inl (t 1, 3, .inr (.inl (fun i => spotArms (3 * 1 + i))))), (a 33, .inl (t 1, 3, .inr (.inl (fun i => spotArms (3 * 2 + i))))), (a 34, .inl (t 11, 12, .inr (.inr (.inr (.inr (fun i => some (a (35 + i)))))))), (a 35, .inl (t 0, 3, .inl (fun i => places (3 * 0 + i)))), (a 36, .inl (t 0, 3, .inl (fun i => places (3 * 1 + i)))), (a 37, .inl (t 0, 3, .inl (fun i => places (3 * 2 + i)))), (a 38, .inl (t 0, 3, .inl (fun i => places (3 * 3 + i)))), (a 39, .inl (t 0, 3, .inl (fun i => places (3 * 4 + i)))), (a 40, .inl (t 0, 3, .inl (fun i => places (3 * 5 + i)))), (a 41, .inl (t 0, 3, .inl (fun i => places (3 * 6 + i)))), (a 42, .inl (t 0, 3, .inl (fun i => places (3 * 7 + i)))), (a 43, .inl (t 0, 3, .inl (fun i => places (3 * 8 + i)))), (a 44, .inl (t 0, 3, .inl (fun i => places (3 * 9 + i)))), (a 45, .inl (t 0, 3, .inl (fun i => places (3 * 10 + i)))), (a 46, .inl (t 0, 3, .inl (fun i => places (3 * 11 + i)))), (a 47, .inl (t 0, 8, .inl byStar)), (a 48, .inl (t 0, 8, .inl byFar)), (a 49, .inl (t 1, 3, .inr (.inl one))), (a 50, .inl (t 0, 12, .inl usedNow)), (a 51, .inl (t 10, 4, .inr (.inr (.inr (.inr (K.rt)))))), (a 52, .inl (t 0, 4, .inl laidMany)), (a 53, .inl (t 9, 4, .inr (.inr (.inr (.inr (fun i => some (a (54 + i)))))))), (a 54, .inr (2, [.int (K.fo 0), va_rf (K.ro 0)])), (a 55, .inr (2, [.int (K.fo 1), va_rf (K.ro 1)])), (a 56, .inr (2, [.int (K.fo 2), va_rf (K.ro 2)])), (a 57, .inr (2, [.int (K.fo 3), va_rf (K.ro 3)]))]
def Xx (t : Nat → ClassId) (a : Nat → Nat) (K : XK) (many : (Nat → Int32)) (settings : (Nat → Int32)) (isVoted : Int32) (lotsNow : Int32) (seen : (Nat → Int32)) (keyOne : (Nat → Int32)) (keyTwo : (Nat → Int32)) (votes : (Nat → Int32)) (looked : Int32) (matched : Int32) (without : Int32) (trio : (Nat → Int32)) (takenStar : (Nat → Int32)) (takenAs : (Nat → Int32)) (takenSpot : (Nat → Int32)) (pairs : Int32) (starArms : (Nat → Int64)) (spotArms : (Nat → Int64)) (isTurn : Int32) (places : (Nat → Int32)) (byStar : (Nat → Int32)) (byFar : (Nat → Int32)) (one : (Nat → Int64)) (usedNow : (Nat → Int32)) (laidMany : (Nat → Int32)) (finding : Int32) : va_W := Xc t a K many settings isVoted lotsNow seen keyOne keyTwo votes looked matched without trio takenStar takenAs takenSpot pairs starArms spotArms isTurn places byStar byFar one usedNow laidMany finding ++ va_pl K.L K.f
section XWD
variable {t : Nat → ClassId} {a : Nat → Nat} {K : XK} {many : (Nat → Int32)} {settings : (Nat → Int32)} {isVoted : Int32} {lotsNow : Int32} {seen : (Nat → Int32)} {keyOne : (Nat → Int32)} {keyTwo : (Nat → Int32)} {votes : (Nat → Int32)} {looked : Int32} {matched : Int32} {without : Int32} {trio : (Nat → Int32)} {takenStar : (Nat → Int32)} {takenAs : (Nat → Int32)} {takenSpot : (Nat → Int32)} {pairs : Int32} {starArms : (Nat → Int64)} {spotArms : (Nat → Int64)} {isTurn : Int32} {places : (Nat → Int32)} {byStar : (Nat → Int32)} {byFar : (Nat → Int32)} {one : (Nat → Int64)} {usedNow : (Nat → Int32)} {laidMany : (Nat → Int32)} {finding : Int32}
theorem xx_at {k : Nat} (h : k < 58) : (Xx t a K many settings isVoted lotsNow seen keyOne keyTwo votes looked matched without trio takenStar takenAs takenSpot pairs starArms spotArms isTurn places byStar byFar one usedNow laidMany finding)[k]? = (Xc t a K many settings isVoted lotsNow seen keyOne keyTwo votes looked matched without trio takenStar takenAs takenSpot pairs starArms spotArms isTurn places byStar byFar one usedNow laidMany finding)[k]? := List.getElem?_append_left h
theorem xk_this : (Xx t a K many settings isVoted lotsNow seen keyOne keyTwo votes looked matched without trio takenStar takenAs takenSpot pairs starArms spotArms isTurn places byStar byFar one usedNow laidMany finding)[0]? = some (a 0, .inr (0, XF a isVoted lotsNow looked matched without pairs isTurn finding)) := (xx_at (by decide)).trans rfl
theorem xk_turners : (Xx t a K many settings isVoted lotsNow seen keyOne keyTwo votes looked matched without trio takenStar takenAs takenSpot pairs starArms spotArms isTurn places byStar byFar one usedNow laidMany finding)[1]? = some (a 1, .inl (t 8, 3, .inr (.inr (.inr (.inr (fun i => some (a (2 + i)))))))) := (xx_at (by decide)).trans rfl
theorem xk_bodies : (Xx t a K many settings isVoted lotsNow seen keyOne keyTwo votes looked matched without trio takenStar takenAs takenSpot pairs starArms spotArms isTurn places byStar byFar one usedNow laidMany finding)[5]? = some (a 5, .inl (t 10, 2, .inr (.inr (.inr (.inr (fun i => some (a (6 + i)))))))) := (xx_at (by decide)).trans rfl
theorem xk_stars : (Xx t a K many settings isVoted lotsNow seen keyOne keyTwo votes looked matched without trio takenStar takenAs takenSpot pairs starArms spotArms isTurn places byStar byFar one usedNow laidMany finding)[6]? = some (a 6, .inl (t 5, 12, .inr (.inr (.inr (.inr (K.rs)))))) := (xx_at (by decide)).trans rfl
theorem xk_spots : (Xx t a K many settings isVoted lotsNow seen keyOne keyTwo votes looked matched without trio takenStar takenAs takenSpot pairs starArms spotArms isTurn places byStar byFar one usedNow laidMany finding)[7]? = some (a 7, .inl (t 5, 8, .inr (.inr (.inr (.inr (K.rp)))))) := (xx_at (by decide)).trans rfl
theorem xk_trays : (Xx t a K many settings isVoted lotsNow seen keyOne keyTwo votes looked matched without trio takenStar takenAs takenSpot pairs starArms spotArms isTurn places byStar byFar one usedNow laidMany finding)[51]? = some (a 51, .inl (t 10, 4, .inr (.inr (.inr (.inr (K.rt)))))) := (xx_at (by decide)).trans rfl
theorem xk_sheets : (Xx t a K many settings isVoted lotsNow seen keyOne keyTwo votes looked matched without trio takenStar takenAs takenSpot pairs starArms spotArms isTurn places byStar byFar one usedNow laidMany finding)[53]? = some (a 53, .inl (t 9, 4, .inr (.inr (.inr (.inr (fun i => some (a (54 + i)))))))) := (xx_at (by decide)).trans rfl
theorem xk_many : (Xx t a K many settings isVoted lotsNow seen keyOne keyTwo votes looked matched without trio takenStar takenAs takenSpot pairs starArms spotArms isTurn places byStar byFar one usedNow laidMany finding)[8]? = some (a 8, .inl (t 0, 2, .inl many)) := (xx_at (by decide)).trans rfl
theorem xk_settings : (Xx t a K many settings isVoted lotsNow seen keyOne keyTwo votes looked matched without trio takenStar takenAs takenSpot pairs starArms spotArms isTurn places byStar byFar one usedNow laidMany finding)[9]? = some (a 9, .inl (t 0, 4, .inl settings)) := (xx_at (by decide)).trans rfl
theorem xk_seen : (Xx t a K many settings isVoted lotsNow seen keyOne keyTwo votes looked matched without trio takenStar takenAs takenSpot pairs starArms spotArms isTurn places byStar byFar one usedNow laidMany finding)[10]? = some (a 10, .inl (t 0, 3, .inl seen)) := (xx_at (by decide)).trans rfl
theorem xk_keyOne : (Xx t a K many settings isVoted lotsNow seen keyOne keyTwo votes looked matched without trio takenStar takenAs takenSpot pairs starArms spotArms isTurn places byStar byFar one usedNow laidMany finding)[11]? = some (a 11, .inl (t 0, 3, .inl keyOne)) := (xx_at (by decide)).trans rfl
theorem xk_keyTwo : (Xx t a K many settings isVoted lotsNow seen keyOne keyTwo votes looked matched without trio takenStar takenAs takenSpot pairs starArms spotArms isTurn places byStar byFar one usedNow laidMany finding)[12]? = some (a 12, .inl (t 0, 3, .inl keyTwo)) := (xx_at (by decide)).trans rfl
theorem xk_votes : (Xx t a K many settings isVoted lotsNow seen keyOne keyTwo votes looked matched without trio takenStar takenAs takenSpot pairs starArms spotArms isTurn places byStar byFar one usedNow laidMany finding)[13]? = some (a 13, .inl (t 11, 8, .inr (.inr (.inr (.inr (fun i => some (a (14 + i)))))))) := (xx_at (by decide)).trans rfl
theorem xk_trio : (Xx t a K many settings isVoted lotsNow seen keyOne keyTwo votes looked matched without trio takenStar takenAs takenSpot pairs starArms spotArms isTurn places byStar byFar one usedNow laidMany finding)[22]? = some (a 22, .inl (t 0, 3, .inl trio)) := (xx_at (by decide)).trans rfl
theorem xk_takenStar : (Xx t a K many settings isVoted lotsNow seen keyOne keyTwo votes looked matched without trio takenStar takenAs takenSpot pairs starArms spotArms isTurn places byStar byFar one usedNow laidMany finding)[23]? = some (a 23, .inl (t 0, 8, .inl takenStar)) := (xx_at (by decide)).trans rfl
theorem xk_takenAs : (Xx t a K many settings isVoted lotsNow seen keyOne keyTwo votes looked matched without trio takenStar takenAs takenSpot pairs starArms spotArms isTurn places byStar byFar one usedNow laidMany finding)[24]? = some (a 24, .inl (t 0, 8, .inl takenAs)) := (xx_at (by decide)).trans rfl
theorem xk_takenSpot : (Xx t a K many settings isVoted lotsNow seen keyOne keyTwo votes looked matched without trio takenStar takenAs takenSpot pairs starArms spotArms isTurn places byStar byFar one usedNow laidMany finding)[25]? = some (a 25, .inl (t 0, 8, .inl takenSpot)) := (xx_at (by decide)).trans rfl
theorem xk_starArms : (Xx t a K many settings isVoted lotsNow seen keyOne keyTwo votes looked matched without trio takenStar takenAs takenSpot pairs starArms spotArms isTurn places byStar byFar one usedNow laidMany finding)[26]? = some (a 26, .inl (t 12, 3, .inr (.inr (.inr (.inr (fun i => some (a (27 + i)))))))) := (xx_at (by decide)).trans rfl
theorem xk_spotArms : (Xx t a K many settings isVoted lotsNow seen keyOne keyTwo votes looked matched without trio takenStar takenAs takenSpot pairs starArms spotArms isTurn places byStar byFar one usedNow laidMany finding)[30]? = some (a 30, .inl (t 12, 3, .inr (.inr (.inr (.inr (fun i => some (a (31 + i)))))))) := (xx_at (by decide)).trans rfl
theorem xk_places : (Xx t a K many settings isVoted lotsNow seen keyOne keyTwo votes looked matched without trio takenStar takenAs takenSpot pairs starArms spotArms isTurn places byStar byFar one usedNow laidMany finding)[34]? = some (a 34, .inl (t 11, 12, .inr (.inr (.inr (.inr (fun i => some (a (35 + i)))))))) := (xx_at (by decide)).trans rfl
theorem xk_byStar : (Xx t a K many settings isVoted lotsNow seen keyOne keyTwo votes looked matched without trio takenStar takenAs takenSpot pairs starArms spotArms isTurn places byStar byFar one usedNow laidMany finding)[47]? = some (a 47, .inl (t 0, 8, .inl byStar)) := (xx_at (by decide)).trans rfl
theorem xk_byFar : (Xx t a K many settings isVoted lotsNow seen keyOne keyTwo votes looked matched without trio takenStar takenAs takenSpot pairs starArms spotArms isTurn places byStar byFar one usedNow laidMany finding)[48]? = some (a 48, .inl (t 0, 8, .inl byFar)) := (xx_at (by decide)).trans rfl
theorem xk_one : (Xx t a K many settings isVoted lotsNow seen keyOne keyTwo votes looked matched without trio takenStar takenAs takenSpot pairs starArms spotArms isTurn places byStar byFar one usedNow laidMany finding)[49]? = some (a 49, .inl (t 1, 3, .inr (.inl one))) := (xx_at (by decide)).trans rfl
theorem xk_usedNow : (Xx t a K many settings isVoted lotsNow seen keyOne keyTwo votes looked matched without trio takenStar takenAs takenSpot pairs starArms spotArms isTurn places byStar byFar one usedNow laidMany finding)[50]? = some (a 50, .inl (t 0, 12, .inl usedNow)) := (xx_at (by decide)).trans rfl
theorem xk_laidMany : (Xx t a K many settings isVoted lotsNow seen keyOne keyTwo votes looked matched without trio takenStar takenAs takenSpot pairs starArms spotArms isTurn places byStar byFar one usedNow laidMany finding)[52]? = some (a 52, .inl (t 0, 4, .inl laidMany)) := (xx_at (by decide)).trans rfl
/-- a kind's row -/
abbrev XK.rk (K : XK) (k : Nat) : Nat → Option Nat := if k = 0 then K.rs else K.rp
theorem xr_bodies {p : Nat} (h : p < 2) : (Xx t a K many settings isVoted lotsNow seen keyOne keyTwo votes looked matched without trio takenStar takenAs takenSpot pairs starArms spotArms isTurn places byStar byFar one usedNow laidMany finding)[6 + p]? = some (a (6 + p), .inl (t 5, mxK p, .inr (.inr (.inr (.inr (K.rk p)))))) := by
  rw [xx_at (by omega)]
  match p, h with
  | 0, _ => rfl
  | 1, _ => rfl
  | p + 2, h => exact absurd h (by omega)
theorem xr_turner {p : Nat} (h : p < 3) : (Xx t a K many settings isVoted lotsNow seen keyOne keyTwo votes looked matched without trio takenStar takenAs takenSpot pairs starArms spotArms isTurn places byStar byFar one usedNow laidMany finding)[2 + p]? = some (a (2 + p), .inr (1, [.ref (a (60 + p))])) := by
  rw [xx_at (by omega)]
  match p, h with
  | 0, _ => rfl
  | 1, _ => rfl
  | 2, _ => rfl
  | p + 3, h => exact absurd h (by omega)
theorem xr_sheet {p : Nat} (h : p < 4) : (Xx t a K many settings isVoted lotsNow seen keyOne keyTwo votes looked matched without trio takenStar takenAs takenSpot pairs starArms spotArms isTurn places byStar byFar one usedNow laidMany finding)[54 + p]? = some (a (54 + p), .inr (2, [.int (K.fo p), va_rf (K.ro p)])) := by
  rw [xx_at (by omega)]
  match p, h with
  | 0, _ => rfl
  | 1, _ => rfl
  | 2, _ => rfl
  | 3, _ => rfl
  | p + 4, h => exact absurd h (by omega)
theorem xr_votes {p : Nat} (h : p < 8) : (Xx t a K many settings isVoted lotsNow seen keyOne keyTwo votes looked matched without trio takenStar takenAs takenSpot pairs starArms spotArms isTurn places byStar byFar one usedNow laidMany finding)[14 + p]? = some (a (14 + p), .inl (t 0, 12, .inl (fun i => votes (12 * p + i)))) := by
  rw [xx_at (by omega)]
  match p, h with
  | 0, _ => rfl
  | 1, _ => rfl
  | 2, _ => rfl
  | 3, _ => rfl
  | 4, _ => rfl
  | 5, _ => rfl
  | 6, _ => rfl
  | 7, _ => rfl
  | p + 8, h => exact absurd h (by omega)
theorem xr_starArms {p : Nat} (h : p < 3) : (Xx t a K many settings isVoted lotsNow seen keyOne keyTwo votes looked matched without trio takenStar takenAs takenSpot pairs starArms spotArms isTurn places byStar byFar one usedNow laidMany finding)[27 + p]? = some (a (27 + p), .inl (t 1, 3, .inr (.inl (fun i => starArms (3 * p + i))))) := by
  rw [xx_at (by omega)]
  match p, h with
  | 0, _ => rfl
  | 1, _ => rfl
  | 2, _ => rfl
  | p + 3, h => exact absurd h (by omega)
theorem xr_spotArms {p : Nat} (h : p < 3) : (Xx t a K many settings isVoted lotsNow seen keyOne keyTwo votes looked matched without trio takenStar takenAs takenSpot pairs starArms spotArms isTurn places byStar byFar one usedNow laidMany finding)[31 + p]? = some (a (31 + p), .inl (t 1, 3, .inr (.inl (fun i => spotArms (3 * p + i))))) := by
  rw [xx_at (by omega)]
  match p, h with
  | 0, _ => rfl
  | 1, _ => rfl
  | 2, _ => rfl
  | p + 3, h => exact absurd h (by omega)
theorem xr_places {p : Nat} (h : p < 12) : (Xx t a K many settings isVoted lotsNow seen keyOne keyTwo votes looked matched without trio takenStar takenAs takenSpot pairs starArms spotArms isTurn places byStar byFar one usedNow laidMany finding)[35 + p]? = some (a (35 + p), .inl (t 0, 3, .inl (fun i => places (3 * p + i)))) := by
  rw [xx_at (by omega)]
  match p, h with
  | 0, _ => rfl
  | 1, _ => rfl
  | 2, _ => rfl
  | 3, _ => rfl
  | 4, _ => rfl
  | 5, _ => rfl
  | 6, _ => rfl
  | 7, _ => rfl
  | 8, _ => rfl
  | 9, _ => rfl
  | 10, _ => rfl
  | 11, _ => rfl
  | p + 12, h => exact absurd h (by omega)
theorem xx_set {k : Nat} (h : k < 58) (x : Nat × va_E) : (Xx t a K many settings isVoted lotsNow seen keyOne keyTwo votes looked matched without trio takenStar takenAs takenSpot pairs starArms spotArms isTurn places byStar byFar one usedNow laidMany finding).set k x = (Xc t a K many settings isVoted lotsNow seen keyOne keyTwo votes looked matched without trio takenStar takenAs takenSpot pairs starArms spotArms isTurn places byStar byFar one usedNow laidMany finding).set k x ++ va_pl K.L K.f := List.set_append_left _ _ h
theorem xs_many (v : (Nat → Int32)) : (Xx t a K many settings isVoted lotsNow seen keyOne keyTwo votes looked matched without trio takenStar takenAs takenSpot pairs starArms spotArms isTurn places byStar byFar one usedNow laidMany finding).set 8 (a 8, .inl (t 0, 2, .inl v)) = Xx t a K v settings isVoted lotsNow seen keyOne keyTwo votes looked matched without trio takenStar takenAs takenSpot pairs starArms spotArms isTurn places byStar byFar one usedNow laidMany finding := (xx_set (by decide) _).trans rfl
theorem xs_settings (v : (Nat → Int32)) : (Xx t a K many settings isVoted lotsNow seen keyOne keyTwo votes looked matched without trio takenStar takenAs takenSpot pairs starArms spotArms isTurn places byStar byFar one usedNow laidMany finding).set 9 (a 9, .inl (t 0, 4, .inl v)) = Xx t a K many v isVoted lotsNow seen keyOne keyTwo votes looked matched without trio takenStar takenAs takenSpot pairs starArms spotArms isTurn places byStar byFar one usedNow laidMany finding := (xx_set (by decide) _).trans rfl
theorem xs_isVoted (v : Int32) : (Xx t a K many settings isVoted lotsNow seen keyOne keyTwo votes looked matched without trio takenStar takenAs takenSpot pairs starArms spotArms isTurn places byStar byFar one usedNow laidMany finding).set 0 (a 0, .inr (0, (XF a isVoted lotsNow looked matched without pairs isTurn finding).set 6 (.int v))) = Xx t a K many settings v lotsNow seen keyOne keyTwo votes looked matched without trio takenStar takenAs takenSpot pairs starArms spotArms isTurn places byStar byFar one usedNow laidMany finding := (xx_set (by decide) _).trans rfl
theorem xs_lotsNow (v : Int32) : (Xx t a K many settings isVoted lotsNow seen keyOne keyTwo votes looked matched without trio takenStar takenAs takenSpot pairs starArms spotArms isTurn places byStar byFar one usedNow laidMany finding).set 0 (a 0, .inr (0, (XF a isVoted lotsNow looked matched without pairs isTurn finding).set 7 (.int v))) = Xx t a K many settings isVoted v seen keyOne keyTwo votes looked matched without trio takenStar takenAs takenSpot pairs starArms spotArms isTurn places byStar byFar one usedNow laidMany finding := (xx_set (by decide) _).trans rfl
theorem xs_seen (v : (Nat → Int32)) : (Xx t a K many settings isVoted lotsNow seen keyOne keyTwo votes looked matched without trio takenStar takenAs takenSpot pairs starArms spotArms isTurn places byStar byFar one usedNow laidMany finding).set 10 (a 10, .inl (t 0, 3, .inl v)) = Xx t a K many settings isVoted lotsNow v keyOne keyTwo votes looked matched without trio takenStar takenAs takenSpot pairs starArms spotArms isTurn places byStar byFar one usedNow laidMany finding := (xx_set (by decide) _).trans rfl
theorem xs_keyOne (v : (Nat → Int32)) : (Xx t a K many settings isVoted lotsNow seen keyOne keyTwo votes looked matched without trio takenStar takenAs takenSpot pairs starArms spotArms isTurn places byStar byFar one usedNow laidMany finding).set 11 (a 11, .inl (t 0, 3, .inl v)) = Xx t a K many settings isVoted lotsNow seen v keyTwo votes looked matched without trio takenStar takenAs takenSpot pairs starArms spotArms isTurn places byStar byFar one usedNow laidMany finding := (xx_set (by decide) _).trans rfl
theorem xs_keyTwo (v : (Nat → Int32)) : (Xx t a K many settings isVoted lotsNow seen keyOne keyTwo votes looked matched without trio takenStar takenAs takenSpot pairs starArms spotArms isTurn places byStar byFar one usedNow laidMany finding).set 12 (a 12, .inl (t 0, 3, .inl v)) = Xx t a K many settings isVoted lotsNow seen keyOne v votes looked matched without trio takenStar takenAs takenSpot pairs starArms spotArms isTurn places byStar byFar one usedNow laidMany finding := (xx_set (by decide) _).trans rfl
theorem xs_looked (v : Int32) : (Xx t a K many settings isVoted lotsNow seen keyOne keyTwo votes looked matched without trio takenStar takenAs takenSpot pairs starArms spotArms isTurn places byStar byFar one usedNow laidMany finding).set 0 (a 0, .inr (0, (XF a isVoted lotsNow looked matched without pairs isTurn finding).set 12 (.int v))) = Xx t a K many settings isVoted lotsNow seen keyOne keyTwo votes v matched without trio takenStar takenAs takenSpot pairs starArms spotArms isTurn places byStar byFar one usedNow laidMany finding := (xx_set (by decide) _).trans rfl
theorem xs_matched (v : Int32) : (Xx t a K many settings isVoted lotsNow seen keyOne keyTwo votes looked matched without trio takenStar takenAs takenSpot pairs starArms spotArms isTurn places byStar byFar one usedNow laidMany finding).set 0 (a 0, .inr (0, (XF a isVoted lotsNow looked matched without pairs isTurn finding).set 13 (.int v))) = Xx t a K many settings isVoted lotsNow seen keyOne keyTwo votes looked v without trio takenStar takenAs takenSpot pairs starArms spotArms isTurn places byStar byFar one usedNow laidMany finding := (xx_set (by decide) _).trans rfl
theorem xs_without (v : Int32) : (Xx t a K many settings isVoted lotsNow seen keyOne keyTwo votes looked matched without trio takenStar takenAs takenSpot pairs starArms spotArms isTurn places byStar byFar one usedNow laidMany finding).set 0 (a 0, .inr (0, (XF a isVoted lotsNow looked matched without pairs isTurn finding).set 14 (.int v))) = Xx t a K many settings isVoted lotsNow seen keyOne keyTwo votes looked matched v trio takenStar takenAs takenSpot pairs starArms spotArms isTurn places byStar byFar one usedNow laidMany finding := (xx_set (by decide) _).trans rfl
theorem xs_trio (v : (Nat → Int32)) : (Xx t a K many settings isVoted lotsNow seen keyOne keyTwo votes looked matched without trio takenStar takenAs takenSpot pairs starArms spotArms isTurn places byStar byFar one usedNow laidMany finding).set 22 (a 22, .inl (t 0, 3, .inl v)) = Xx t a K many settings isVoted lotsNow seen keyOne keyTwo votes looked matched without v takenStar takenAs takenSpot pairs starArms spotArms isTurn places byStar byFar one usedNow laidMany finding := (xx_set (by decide) _).trans rfl
theorem xs_takenStar (v : (Nat → Int32)) : (Xx t a K many settings isVoted lotsNow seen keyOne keyTwo votes looked matched without trio takenStar takenAs takenSpot pairs starArms spotArms isTurn places byStar byFar one usedNow laidMany finding).set 23 (a 23, .inl (t 0, 8, .inl v)) = Xx t a K many settings isVoted lotsNow seen keyOne keyTwo votes looked matched without trio v takenAs takenSpot pairs starArms spotArms isTurn places byStar byFar one usedNow laidMany finding := (xx_set (by decide) _).trans rfl
theorem xs_takenAs (v : (Nat → Int32)) : (Xx t a K many settings isVoted lotsNow seen keyOne keyTwo votes looked matched without trio takenStar takenAs takenSpot pairs starArms spotArms isTurn places byStar byFar one usedNow laidMany finding).set 24 (a 24, .inl (t 0, 8, .inl v)) = Xx t a K many settings isVoted lotsNow seen keyOne keyTwo votes looked matched without trio takenStar v takenSpot pairs starArms spotArms isTurn places byStar byFar one usedNow laidMany finding := (xx_set (by decide) _).trans rfl
theorem xs_takenSpot (v : (Nat → Int32)) : (Xx t a K many settings isVoted lotsNow seen keyOne keyTwo votes looked matched without trio takenStar takenAs takenSpot pairs starArms spotArms isTurn places byStar byFar one usedNow laidMany finding).set 25 (a 25, .inl (t 0, 8, .inl v)) = Xx t a K many settings isVoted lotsNow seen keyOne keyTwo votes looked matched without trio takenStar takenAs v pairs starArms spotArms isTurn places byStar byFar one usedNow laidMany finding := (xx_set (by decide) _).trans rfl
theorem xs_pairs (v : Int32) : (Xx t a K many settings isVoted lotsNow seen keyOne keyTwo votes looked matched without trio takenStar takenAs takenSpot pairs starArms spotArms isTurn places byStar byFar one usedNow laidMany finding).set 0 (a 0, .inr (0, (XF a isVoted lotsNow looked matched without pairs isTurn finding).set 19 (.int v))) = Xx t a K many settings isVoted lotsNow seen keyOne keyTwo votes looked matched without trio takenStar takenAs takenSpot v starArms spotArms isTurn places byStar byFar one usedNow laidMany finding := (xx_set (by decide) _).trans rfl
theorem xs_isTurn (v : Int32) : (Xx t a K many settings isVoted lotsNow seen keyOne keyTwo votes looked matched without trio takenStar takenAs takenSpot pairs starArms spotArms isTurn places byStar byFar one usedNow laidMany finding).set 0 (a 0, .inr (0, (XF a isVoted lotsNow looked matched without pairs isTurn finding).set 22 (.int v))) = Xx t a K many settings isVoted lotsNow seen keyOne keyTwo votes looked matched without trio takenStar takenAs takenSpot pairs starArms spotArms v places byStar byFar one usedNow laidMany finding := (xx_set (by decide) _).trans rfl
theorem xs_byStar (v : (Nat → Int32)) : (Xx t a K many settings isVoted lotsNow seen keyOne keyTwo votes looked matched without trio takenStar takenAs takenSpot pairs starArms spotArms isTurn places byStar byFar one usedNow laidMany finding).set 47 (a 47, .inl (t 0, 8, .inl v)) = Xx t a K many settings isVoted lotsNow seen keyOne keyTwo votes looked matched without trio takenStar takenAs takenSpot pairs starArms spotArms isTurn places v byFar one usedNow laidMany finding := (xx_set (by decide) _).trans rfl
theorem xs_byFar (v : (Nat → Int32)) : (Xx t a K many settings isVoted lotsNow seen keyOne keyTwo votes looked matched without trio takenStar takenAs takenSpot pairs starArms spotArms isTurn places byStar byFar one usedNow laidMany finding).set 48 (a 48, .inl (t 0, 8, .inl v)) = Xx t a K many settings isVoted lotsNow seen keyOne keyTwo votes looked matched without trio takenStar takenAs takenSpot pairs starArms spotArms isTurn places byStar v one usedNow laidMany finding := (xx_set (by decide) _).trans rfl
theorem xs_one (v : (Nat → Int64)) : (Xx t a K many settings isVoted lotsNow seen keyOne keyTwo votes looked matched without trio takenStar takenAs takenSpot pairs starArms spotArms isTurn places byStar byFar one usedNow laidMany finding).set 49 (a 49, .inl (t 1, 3, .inr (.inl v))) = Xx t a K many settings isVoted lotsNow seen keyOne keyTwo votes looked matched without trio takenStar takenAs takenSpot pairs starArms spotArms isTurn places byStar byFar v usedNow laidMany finding := (xx_set (by decide) _).trans rfl
theorem xs_usedNow (v : (Nat → Int32)) : (Xx t a K many settings isVoted lotsNow seen keyOne keyTwo votes looked matched without trio takenStar takenAs takenSpot pairs starArms spotArms isTurn places byStar byFar one usedNow laidMany finding).set 50 (a 50, .inl (t 0, 12, .inl v)) = Xx t a K many settings isVoted lotsNow seen keyOne keyTwo votes looked matched without trio takenStar takenAs takenSpot pairs starArms spotArms isTurn places byStar byFar one v laidMany finding := (xx_set (by decide) _).trans rfl
theorem xs_laidMany (v : (Nat → Int32)) : (Xx t a K many settings isVoted lotsNow seen keyOne keyTwo votes looked matched without trio takenStar takenAs takenSpot pairs starArms spotArms isTurn places byStar byFar one usedNow laidMany finding).set 52 (a 52, .inl (t 0, 4, .inl v)) = Xx t a K many settings isVoted lotsNow seen keyOne keyTwo votes looked matched without trio takenStar takenAs takenSpot pairs starArms spotArms isTurn places byStar byFar one usedNow v finding := (xx_set (by decide) _).trans rfl
theorem xs_finding (v : Int32) : (Xx t a K many settings isVoted lotsNow seen keyOne keyTwo votes looked matched without trio takenStar takenAs takenSpot pairs starArms spotArms isTurn places byStar byFar one usedNow laidMany finding).set 0 (a 0, .inr (0, (XF a isVoted lotsNow looked matched without pairs isTurn finding).set 31 (.int v))) = Xx t a K many settings isVoted lotsNow seen keyOne keyTwo votes looked matched without trio takenStar takenAs takenSpot pairs starArms spotArms isTurn places byStar byFar one usedNow laidMany v := (xx_set (by decide) _).trans rfl
theorem xp_cong {D : va_G} {cl : List vw_C} {ws ws' : va_W} {H : Heap} (h : va_P D cl ws H) (hc : ∀ (k : Nat) (q : Nat × va_E), ws'[k]? = some q → ∃ q0 : Nat × va_E, ws[k]? = some q0 ∧ (q0 = q ∨ ∃ (b n : Nat) (c : ClassId) (x x' : (Nat → Int32) ⊕ (Nat → Int64) ⊕ (Nat → UInt32) ⊕ (Nat → UInt64) ⊕ (Nat → Option Nat)), q0 = (b, .inl (c, n, x)) ∧ q = (b, .inl (c, n, x')) ∧ vp_cell c (n, x) = vp_cell c (n, x'))) : va_P D cl ws' H := by
  intro k q hq
  obtain ⟨q0, h0, h1⟩ := hc k q hq
  rcases h1 with rfl | ⟨b, n, c, x, x', rfl, rfl, e⟩
  · exact h k _ h0
  · have := h k _ h0
    show H[b]? = some (vp_cell c (n, x'))
    rw [← e]
    exact this
theorem xp_arrI {c : ClassId} {n : Nat} {f g : Nat → Int32} (h : ∀ i, i < n → f i = g i) : vp_cell c (n, .inl f) = vp_cell c (n, .inl g) := by
  show arrV c n (fun j => .int (f j)) = arrV c n (fun j => .int (g j))
  unfold arrV
  congr 2
  funext j
  show Value.int (f j.1) = Value.int (g j.1)
  rw [h j.1 j.2]
theorem xp_arrL {c : ClassId} {n : Nat} {f g : Nat → Int64} (h : ∀ i, i < n → f i = g i) : vp_cell c (n, .inr (.inl f)) = vp_cell c (n, .inr (.inl g)) := by
  show arrV c n (fun j => .long (f j)) = arrV c n (fun j => .long (g j))
  unfold arrV
  congr 2
  funext j
  show Value.long (f j.1) = Value.long (g j.1)
  rw [h j.1 j.2]
theorem xo_votes (v : (Nat → Int32)) {k : Nat} (h : k < 14 ∨ 22 ≤ k) : (Xx t a K many settings isVoted lotsNow seen keyOne keyTwo v looked matched without trio takenStar takenAs takenSpot pairs starArms spotArms isTurn places byStar byFar one usedNow laidMany finding)[k]? = (Xx t a K many settings isVoted lotsNow seen keyOne keyTwo votes looked matched without trio takenStar takenAs takenSpot pairs starArms spotArms isTurn places byStar byFar one usedNow laidMany finding)[k]? := by
  by_cases hk : k < 58
  · rw [xx_at hk, xx_at hk]
    match k, h, hk with
    | 0, _, _ => rfl
    | 1, _, _ => rfl
    | 2, _, _ => rfl
    | 3, _, _ => rfl
    | 4, _, _ => rfl
    | 5, _, _ => rfl
    | 6, _, _ => rfl
    | 7, _, _ => rfl
    | 8, _, _ => rfl
    | 9, _, _ => rfl
    | 10, _, _ => rfl
    | 11, _, _ => rfl
    | 12, _, _ => rfl
    | 13, _, _ => rfl
    | 14, h, _ => exact absurd h (by decide)
    | 15, h, _ => exact absurd h (by decide)
    | 16, h, _ => exact absurd h (by decide)
    | 17, h, _ => exact absurd h (by decide)
    | 18, h, _ => exact absurd h (by decide)
    | 19, h, _ => exact absurd h (by decide)
    | 20, h, _ => exact absurd h (by decide)
    | 21, h, _ => exact absurd h (by decide)
    | 22, _, _ => rfl
    | 23, _, _ => rfl
    | 24, _, _ => rfl
    | 25, _, _ => rfl
    | 26, _, _ => rfl
    | 27, _, _ => rfl
    | 28, _, _ => rfl
    | 29, _, _ => rfl
    | 30, _, _ => rfl
    | 31, _, _ => rfl
    | 32, _, _ => rfl
    | 33, _, _ => rfl
    | 34, _, _ => rfl
    | 35, _, _ => rfl
    | 36, _, _ => rfl
    | 37, _, _ => rfl
    | 38, _, _ => rfl
    | 39, _, _ => rfl
    | 40, _, _ => rfl
    | 41, _, _ => rfl
    | 42, _, _ => rfl
    | 43, _, _ => rfl
    | 44, _, _ => rfl
    | 45, _, _ => rfl
    | 46, _, _ => rfl
    | 47, _, _ => rfl
    | 48, _, _ => rfl
    | 49, _, _ => rfl
    | 50, _, _ => rfl
    | 51, _, _ => rfl
    | 52, _, _ => rfl
    | 53, _, _ => rfl
    | 54, _, _ => rfl
    | 55, _, _ => rfl
    | 56, _, _ => rfl
    | 57, _, _ => rfl
    | k + 58, _, hk => exact absurd hk (by omega)
  · show (Xc t a K many settings isVoted lotsNow seen keyOne keyTwo v looked matched without trio takenStar takenAs takenSpot pairs starArms spotArms isTurn places byStar byFar one usedNow laidMany finding ++ va_pl K.L K.f)[k]? = (Xc t a K many settings isVoted lotsNow seen keyOne keyTwo votes looked matched without trio takenStar takenAs takenSpot pairs starArms spotArms isTurn places byStar byFar one usedNow laidMany finding ++ va_pl K.L K.f)[k]?
    rw [List.getElem?_append_right (show (Xc t a K many settings isVoted lotsNow seen keyOne keyTwo v looked matched without trio takenStar takenAs takenSpot pairs starArms spotArms isTurn places byStar byFar one usedNow laidMany finding).length ≤ k from Nat.le_of_not_lt hk), List.getElem?_append_right (show (Xc t a K many settings isVoted lotsNow seen keyOne keyTwo votes looked matched without trio takenStar takenAs takenSpot pairs starArms spotArms isTurn places byStar byFar one usedNow laidMany finding).length ≤ k from Nat.le_of_not_lt hk)]
    rfl
theorem xt_votes {D : va_G} {cl : List vw_C} {H : Heap} {p j : Nat} {x : Int32} (hp : p < 8) (hj : j < 12) (h : va_P D cl ((Xx t a K many settings isVoted lotsNow seen keyOne keyTwo votes looked matched without trio takenStar takenAs takenSpot pairs starArms spotArms isTurn places byStar byFar one usedNow laidMany finding).set (14 + p) (a (14 + p), .inl (t 0, 12, .inl (upd (fun i => votes (12 * p + i)) j x)))) H) : va_P D cl (Xx t a K many settings isVoted lotsNow seen keyOne keyTwo (upd votes (12 * p + j) x) looked matched without trio takenStar takenAs takenSpot pairs starArms spotArms isTurn places byStar byFar one usedNow laidMany finding) H := by
  refine xp_cong h fun k q hq => ?_
  have hlen : 14 + p < (Xx t a K many settings isVoted lotsNow seen keyOne keyTwo votes looked matched without trio takenStar takenAs takenSpot pairs starArms spotArms isTurn places byStar byFar one usedNow laidMany finding).length := by
    have := xr_votes (t := t) (a := a) (K := K) (many := many) (settings := settings) (isVoted := isVoted) (lotsNow := lotsNow) (seen := seen) (keyOne := keyOne) (keyTwo := keyTwo) (votes := votes) (looked := looked) (matched := matched) (without := without) (trio := trio) (takenStar := takenStar) (takenAs := takenAs) (takenSpot := takenSpot) (pairs := pairs) (starArms := starArms) (spotArms := spotArms) (isTurn := isTurn) (places := places) (byStar := byStar) (byFar := byFar) (one := one) (usedNow := usedNow) (laidMany := laidMany) (finding := finding) hp
    exact (List.getElem?_eq_some_iff.mp this).1
  by_cases hk : k < 14 ∨ 22 ≤ k
  · refine ⟨q, ?_, Or.inl rfl⟩
    rw [List.getElem?_set_ne (by omega), ← hq]
    exact (xo_votes _ hk).symm
  · obtain ⟨r, rfl, hr⟩ : ∃ r, k = 14 + r ∧ r < 8 := ⟨k - 14, by omega, by omega⟩
    rw [xr_votes hr] at hq
    cases hq
    by_cases hrp : r = p
    · subst hrp
      refine ⟨_, by rw [List.getElem?_set_self hlen], Or.inr ⟨_, _, _, _, _, rfl, rfl, xp_arrI fun i hi => ?_⟩⟩
      show (if i = j then x else votes (12 * r + i)) = if 12 * r + i = 12 * r + j then x else votes (12 * r + i)
      by_cases e : i = j
      · rw [if_pos e, if_pos (by omega)]
      · rw [if_neg e, if_neg (by omega)]
    · refine ⟨_, by rw [List.getElem?_set_ne (by omega)]; exact xr_votes hr, Or.inr ⟨_, _, _, _, _, rfl, rfl, xp_arrI fun i hi => ?_⟩⟩
      show votes (12 * r + i) = if 12 * r + i = 12 * p + j then x else votes (12 * r + i)
      rw [if_neg (by omega)]
theorem xo_starArms (v : (Nat → Int64)) {k : Nat} (h : k < 27 ∨ 30 ≤ k) : (Xx t a K many settings isVoted lotsNow seen keyOne keyTwo votes looked matched without trio takenStar takenAs takenSpot pairs v spotArms isTurn places byStar byFar one usedNow laidMany finding)[k]? = (Xx t a K many settings isVoted lotsNow seen keyOne keyTwo votes looked matched without trio takenStar takenAs takenSpot pairs starArms spotArms isTurn places byStar byFar one usedNow laidMany finding)[k]? := by
  by_cases hk : k < 58
  · rw [xx_at hk, xx_at hk]
    match k, h, hk with
    | 0, _, _ => rfl
    | 1, _, _ => rfl
    | 2, _, _ => rfl
    | 3, _, _ => rfl
    | 4, _, _ => rfl
    | 5, _, _ => rfl
    | 6, _, _ => rfl
    | 7, _, _ => rfl
    | 8, _, _ => rfl
    | 9, _, _ => rfl
    | 10, _, _ => rfl
    | 11, _, _ => rfl
    | 12, _, _ => rfl
    | 13, _, _ => rfl
    | 14, _, _ => rfl
    | 15, _, _ => rfl
    | 16, _, _ => rfl
    | 17, _, _ => rfl
    | 18, _, _ => rfl
    | 19, _, _ => rfl
    | 20, _, _ => rfl
    | 21, _, _ => rfl
    | 22, _, _ => rfl
    | 23, _, _ => rfl
    | 24, _, _ => rfl
    | 25, _, _ => rfl
    | 26, _, _ => rfl
    | 27, h, _ => exact absurd h (by decide)
    | 28, h, _ => exact absurd h (by decide)
    | 29, h, _ => exact absurd h (by decide)
    | 30, _, _ => rfl
    | 31, _, _ => rfl
    | 32, _, _ => rfl
    | 33, _, _ => rfl
    | 34, _, _ => rfl
    | 35, _, _ => rfl
    | 36, _, _ => rfl
    | 37, _, _ => rfl
    | 38, _, _ => rfl
    | 39, _, _ => rfl
    | 40, _, _ => rfl
    | 41, _, _ => rfl
    | 42, _, _ => rfl
    | 43, _, _ => rfl
    | 44, _, _ => rfl
    | 45, _, _ => rfl
    | 46, _, _ => rfl
    | 47, _, _ => rfl
    | 48, _, _ => rfl
    | 49, _, _ => rfl
    | 50, _, _ => rfl
    | 51, _, _ => rfl
    | 52, _, _ => rfl
    | 53, _, _ => rfl
    | 54, _, _ => rfl
    | 55, _, _ => rfl
    | 56, _, _ => rfl
    | 57, _, _ => rfl
    | k + 58, _, hk => exact absurd hk (by omega)
  · show (Xc t a K many settings isVoted lotsNow seen keyOne keyTwo votes looked matched without trio takenStar takenAs takenSpot pairs v spotArms isTurn places byStar byFar one usedNow laidMany finding ++ va_pl K.L K.f)[k]? = (Xc t a K many settings isVoted lotsNow seen keyOne keyTwo votes looked matched without trio takenStar takenAs takenSpot pairs starArms spotArms isTurn places byStar byFar one usedNow laidMany finding ++ va_pl K.L K.f)[k]?
    rw [List.getElem?_append_right (show (Xc t a K many settings isVoted lotsNow seen keyOne keyTwo votes looked matched without trio takenStar takenAs takenSpot pairs v spotArms isTurn places byStar byFar one usedNow laidMany finding).length ≤ k from Nat.le_of_not_lt hk), List.getElem?_append_right (show (Xc t a K many settings isVoted lotsNow seen keyOne keyTwo votes looked matched without trio takenStar takenAs takenSpot pairs starArms spotArms isTurn places byStar byFar one usedNow laidMany finding).length ≤ k from Nat.le_of_not_lt hk)]
    rfl
theorem xt_starArms {D : va_G} {cl : List vw_C} {H : Heap} {p j : Nat} {x : Int64} (hp : p < 3) (hj : j < 3) (h : va_P D cl ((Xx t a K many settings isVoted lotsNow seen keyOne keyTwo votes looked matched without trio takenStar takenAs takenSpot pairs starArms spotArms isTurn places byStar byFar one usedNow laidMany finding).set (27 + p) (a (27 + p), .inl (t 1, 3, .inr (.inl (vp_updL (fun i => starArms (3 * p + i)) j x))))) H) : va_P D cl (Xx t a K many settings isVoted lotsNow seen keyOne keyTwo votes looked matched without trio takenStar takenAs takenSpot pairs (vp_updL starArms (3 * p + j) x) spotArms isTurn places byStar byFar one usedNow laidMany finding) H := by
  refine xp_cong h fun k q hq => ?_
  have hlen : 27 + p < (Xx t a K many settings isVoted lotsNow seen keyOne keyTwo votes looked matched without trio takenStar takenAs takenSpot pairs starArms spotArms isTurn places byStar byFar one usedNow laidMany finding).length := by
    have := xr_starArms (t := t) (a := a) (K := K) (many := many) (settings := settings) (isVoted := isVoted) (lotsNow := lotsNow) (seen := seen) (keyOne := keyOne) (keyTwo := keyTwo) (votes := votes) (looked := looked) (matched := matched) (without := without) (trio := trio) (takenStar := takenStar) (takenAs := takenAs) (takenSpot := takenSpot) (pairs := pairs) (starArms := starArms) (spotArms := spotArms) (isTurn := isTurn) (places := places) (byStar := byStar) (byFar := byFar) (one := one) (usedNow := usedNow) (laidMany := laidMany) (finding := finding) hp
    exact (List.getElem?_eq_some_iff.mp this).1
  by_cases hk : k < 27 ∨ 30 ≤ k
  · refine ⟨q, ?_, Or.inl rfl⟩
    rw [List.getElem?_set_ne (by omega), ← hq]
    exact (xo_starArms _ hk).symm
  · obtain ⟨r, rfl, hr⟩ : ∃ r, k = 27 + r ∧ r < 3 := ⟨k - 27, by omega, by omega⟩
    rw [xr_starArms hr] at hq
    cases hq
    by_cases hrp : r = p
    · subst hrp
      refine ⟨_, by rw [List.getElem?_set_self hlen], Or.inr ⟨_, _, _, _, _, rfl, rfl, xp_arrL fun i hi => ?_⟩⟩
      show (if i = j then x else starArms (3 * r + i)) = if 3 * r + i = 3 * r + j then x else starArms (3 * r + i)
      by_cases e : i = j
      · rw [if_pos e, if_pos (by omega)]
      · rw [if_neg e, if_neg (by omega)]
    · refine ⟨_, by rw [List.getElem?_set_ne (by omega)]; exact xr_starArms hr, Or.inr ⟨_, _, _, _, _, rfl, rfl, xp_arrL fun i hi => ?_⟩⟩
      show starArms (3 * r + i) = if 3 * r + i = 3 * p + j then x else starArms (3 * r + i)
      rw [if_neg (by omega)]
theorem xo_spotArms (v : (Nat → Int64)) {k : Nat} (h : k < 31 ∨ 34 ≤ k) : (Xx t a K many settings isVoted lotsNow seen keyOne keyTwo votes looked matched without trio takenStar takenAs takenSpot pairs starArms v isTurn places byStar byFar one usedNow laidMany finding)[k]? = (Xx t a K many settings isVoted lotsNow seen keyOne keyTwo votes looked matched without trio takenStar takenAs takenSpot pairs starArms spotArms isTurn places byStar byFar one usedNow laidMany finding)[k]? := by
  by_cases hk : k < 58
  · rw [xx_at hk, xx_at hk]
    match k, h, hk with
    | 0, _, _ => rfl
    | 1, _, _ => rfl
    | 2, _, _ => rfl
    | 3, _, _ => rfl
    | 4, _, _ => rfl
    | 5, _, _ => rfl
    | 6, _, _ => rfl
    | 7, _, _ => rfl
    | 8, _, _ => rfl
    | 9, _, _ => rfl
    | 10, _, _ => rfl
    | 11, _, _ => rfl
    | 12, _, _ => rfl
    | 13, _, _ => rfl
    | 14, _, _ => rfl
    | 15, _, _ => rfl
    | 16, _, _ => rfl
    | 17, _, _ => rfl
    | 18, _, _ => rfl
    | 19, _, _ => rfl
    | 20, _, _ => rfl
    | 21, _, _ => rfl
    | 22, _, _ => rfl
    | 23, _, _ => rfl
    | 24, _, _ => rfl
    | 25, _, _ => rfl
    | 26, _, _ => rfl
    | 27, _, _ => rfl
    | 28, _, _ => rfl
    | 29, _, _ => rfl
    | 30, _, _ => rfl
    | 31, h, _ => exact absurd h (by decide)
    | 32, h, _ => exact absurd h (by decide)
    | 33, h, _ => exact absurd h (by decide)
    | 34, _, _ => rfl
    | 35, _, _ => rfl
    | 36, _, _ => rfl
    | 37, _, _ => rfl
    | 38, _, _ => rfl
    | 39, _, _ => rfl
    | 40, _, _ => rfl
    | 41, _, _ => rfl
    | 42, _, _ => rfl
    | 43, _, _ => rfl
    | 44, _, _ => rfl
    | 45, _, _ => rfl
    | 46, _, _ => rfl
    | 47, _, _ => rfl
    | 48, _, _ => rfl
    | 49, _, _ => rfl
    | 50, _, _ => rfl
    | 51, _, _ => rfl
    | 52, _, _ => rfl
    | 53, _, _ => rfl
    | 54, _, _ => rfl
    | 55, _, _ => rfl
    | 56, _, _ => rfl
    | 57, _, _ => rfl
    | k + 58, _, hk => exact absurd hk (by omega)
  · show (Xc t a K many settings isVoted lotsNow seen keyOne keyTwo votes looked matched without trio takenStar takenAs takenSpot pairs starArms v isTurn places byStar byFar one usedNow laidMany finding ++ va_pl K.L K.f)[k]? = (Xc t a K many settings isVoted lotsNow seen keyOne keyTwo votes looked matched without trio takenStar takenAs takenSpot pairs starArms spotArms isTurn places byStar byFar one usedNow laidMany finding ++ va_pl K.L K.f)[k]?
    rw [List.getElem?_append_right (show (Xc t a K many settings isVoted lotsNow seen keyOne keyTwo votes looked matched without trio takenStar takenAs takenSpot pairs starArms v isTurn places byStar byFar one usedNow laidMany finding).length ≤ k from Nat.le_of_not_lt hk), List.getElem?_append_right (show (Xc t a K many settings isVoted lotsNow seen keyOne keyTwo votes looked matched without trio takenStar takenAs takenSpot pairs starArms spotArms isTurn places byStar byFar one usedNow laidMany finding).length ≤ k from Nat.le_of_not_lt hk)]
    rfl
theorem xt_spotArms {D : va_G} {cl : List vw_C} {H : Heap} {p j : Nat} {x : Int64} (hp : p < 3) (hj : j < 3) (h : va_P D cl ((Xx t a K many settings isVoted lotsNow seen keyOne keyTwo votes looked matched without trio takenStar takenAs takenSpot pairs starArms spotArms isTurn places byStar byFar one usedNow laidMany finding).set (31 + p) (a (31 + p), .inl (t 1, 3, .inr (.inl (vp_updL (fun i => spotArms (3 * p + i)) j x))))) H) : va_P D cl (Xx t a K many settings isVoted lotsNow seen keyOne keyTwo votes looked matched without trio takenStar takenAs takenSpot pairs starArms (vp_updL spotArms (3 * p + j) x) isTurn places byStar byFar one usedNow laidMany finding) H := by
  refine xp_cong h fun k q hq => ?_
  have hlen : 31 + p < (Xx t a K many settings isVoted lotsNow seen keyOne keyTwo votes looked matched without trio takenStar takenAs takenSpot pairs starArms spotArms isTurn places byStar byFar one usedNow laidMany finding).length := by
    have := xr_spotArms (t := t) (a := a) (K := K) (many := many) (settings := settings) (isVoted := isVoted) (lotsNow := lotsNow) (seen := seen) (keyOne := keyOne) (keyTwo := keyTwo) (votes := votes) (looked := looked) (matched := matched) (without := without) (trio := trio) (takenStar := takenStar) (takenAs := takenAs) (takenSpot := takenSpot) (pairs := pairs) (starArms := starArms) (spotArms := spotArms) (isTurn := isTurn) (places := places) (byStar := byStar) (byFar := byFar) (one := one) (usedNow := usedNow) (laidMany := laidMany) (finding := finding) hp
    exact (List.getElem?_eq_some_iff.mp this).1
  by_cases hk : k < 31 ∨ 34 ≤ k
  · refine ⟨q, ?_, Or.inl rfl⟩
    rw [List.getElem?_set_ne (by omega), ← hq]
    exact (xo_spotArms _ hk).symm
  · obtain ⟨r, rfl, hr⟩ : ∃ r, k = 31 + r ∧ r < 3 := ⟨k - 31, by omega, by omega⟩
    rw [xr_spotArms hr] at hq
    cases hq
    by_cases hrp : r = p
    · subst hrp
      refine ⟨_, by rw [List.getElem?_set_self hlen], Or.inr ⟨_, _, _, _, _, rfl, rfl, xp_arrL fun i hi => ?_⟩⟩
      show (if i = j then x else spotArms (3 * r + i)) = if 3 * r + i = 3 * r + j then x else spotArms (3 * r + i)
      by_cases e : i = j
      · rw [if_pos e, if_pos (by omega)]
      · rw [if_neg e, if_neg (by omega)]
    · refine ⟨_, by rw [List.getElem?_set_ne (by omega)]; exact xr_spotArms hr, Or.inr ⟨_, _, _, _, _, rfl, rfl, xp_arrL fun i hi => ?_⟩⟩
      show spotArms (3 * r + i) = if 3 * r + i = 3 * p + j then x else spotArms (3 * r + i)
      rw [if_neg (by omega)]
theorem xo_places (v : (Nat → Int32)) {k : Nat} (h : k < 35 ∨ 47 ≤ k) : (Xx t a K many settings isVoted lotsNow seen keyOne keyTwo votes looked matched without trio takenStar takenAs takenSpot pairs starArms spotArms isTurn v byStar byFar one usedNow laidMany finding)[k]? = (Xx t a K many settings isVoted lotsNow seen keyOne keyTwo votes looked matched without trio takenStar takenAs takenSpot pairs starArms spotArms isTurn places byStar byFar one usedNow laidMany finding)[k]? := by
  by_cases hk : k < 58
  · rw [xx_at hk, xx_at hk]
    match k, h, hk with
    | 0, _, _ => rfl
    | 1, _, _ => rfl
    | 2, _, _ => rfl
    | 3, _, _ => rfl
    | 4, _, _ => rfl
    | 5, _, _ => rfl
    | 6, _, _ => rfl
    | 7, _, _ => rfl
    | 8, _, _ => rfl
    | 9, _, _ => rfl
    | 10, _, _ => rfl
    | 11, _, _ => rfl
    | 12, _, _ => rfl
    | 13, _, _ => rfl
    | 14, _, _ => rfl
    | 15, _, _ => rfl
    | 16, _, _ => rfl
    | 17, _, _ => rfl
    | 18, _, _ => rfl
    | 19, _, _ => rfl
    | 20, _, _ => rfl
    | 21, _, _ => rfl
    | 22, _, _ => rfl
    | 23, _, _ => rfl
    | 24, _, _ => rfl
    | 25, _, _ => rfl
    | 26, _, _ => rfl
    | 27, _, _ => rfl
    | 28, _, _ => rfl
    | 29, _, _ => rfl
    | 30, _, _ => rfl
    | 31, _, _ => rfl
    | 32, _, _ => rfl
    | 33, _, _ => rfl
    | 34, _, _ => rfl
    | 35, h, _ => exact absurd h (by decide)
    | 36, h, _ => exact absurd h (by decide)
    | 37, h, _ => exact absurd h (by decide)
    | 38, h, _ => exact absurd h (by decide)
    | 39, h, _ => exact absurd h (by decide)
    | 40, h, _ => exact absurd h (by decide)
    | 41, h, _ => exact absurd h (by decide)
    | 42, h, _ => exact absurd h (by decide)
    | 43, h, _ => exact absurd h (by decide)
    | 44, h, _ => exact absurd h (by decide)
    | 45, h, _ => exact absurd h (by decide)
    | 46, h, _ => exact absurd h (by decide)
    | 47, _, _ => rfl
    | 48, _, _ => rfl
    | 49, _, _ => rfl
    | 50, _, _ => rfl
    | 51, _, _ => rfl
    | 52, _, _ => rfl
    | 53, _, _ => rfl
    | 54, _, _ => rfl
    | 55, _, _ => rfl
    | 56, _, _ => rfl
    | 57, _, _ => rfl
    | k + 58, _, hk => exact absurd hk (by omega)
  · show (Xc t a K many settings isVoted lotsNow seen keyOne keyTwo votes looked matched without trio takenStar takenAs takenSpot pairs starArms spotArms isTurn v byStar byFar one usedNow laidMany finding ++ va_pl K.L K.f)[k]? = (Xc t a K many settings isVoted lotsNow seen keyOne keyTwo votes looked matched without trio takenStar takenAs takenSpot pairs starArms spotArms isTurn places byStar byFar one usedNow laidMany finding ++ va_pl K.L K.f)[k]?
    rw [List.getElem?_append_right (show (Xc t a K many settings isVoted lotsNow seen keyOne keyTwo votes looked matched without trio takenStar takenAs takenSpot pairs starArms spotArms isTurn v byStar byFar one usedNow laidMany finding).length ≤ k from Nat.le_of_not_lt hk), List.getElem?_append_right (show (Xc t a K many settings isVoted lotsNow seen keyOne keyTwo votes looked matched without trio takenStar takenAs takenSpot pairs starArms spotArms isTurn places byStar byFar one usedNow laidMany finding).length ≤ k from Nat.le_of_not_lt hk)]
    rfl
theorem xt_places {D : va_G} {cl : List vw_C} {H : Heap} {p j : Nat} {x : Int32} (hp : p < 12) (hj : j < 3) (h : va_P D cl ((Xx t a K many settings isVoted lotsNow seen keyOne keyTwo votes looked matched without trio takenStar takenAs takenSpot pairs starArms spotArms isTurn places byStar byFar one usedNow laidMany finding).set (35 + p) (a (35 + p), .inl (t 0, 3, .inl (upd (fun i => places (3 * p + i)) j x)))) H) : va_P D cl (Xx t a K many settings isVoted lotsNow seen keyOne keyTwo votes looked matched without trio takenStar takenAs takenSpot pairs starArms spotArms isTurn (upd places (3 * p + j) x) byStar byFar one usedNow laidMany finding) H := by
  refine xp_cong h fun k q hq => ?_
  have hlen : 35 + p < (Xx t a K many settings isVoted lotsNow seen keyOne keyTwo votes looked matched without trio takenStar takenAs takenSpot pairs starArms spotArms isTurn places byStar byFar one usedNow laidMany finding).length := by
    have := xr_places (t := t) (a := a) (K := K) (many := many) (settings := settings) (isVoted := isVoted) (lotsNow := lotsNow) (seen := seen) (keyOne := keyOne) (keyTwo := keyTwo) (votes := votes) (looked := looked) (matched := matched) (without := without) (trio := trio) (takenStar := takenStar) (takenAs := takenAs) (takenSpot := takenSpot) (pairs := pairs) (starArms := starArms) (spotArms := spotArms) (isTurn := isTurn) (places := places) (byStar := byStar) (byFar := byFar) (one := one) (usedNow := usedNow) (laidMany := laidMany) (finding := finding) hp
    exact (List.getElem?_eq_some_iff.mp this).1
  by_cases hk : k < 35 ∨ 47 ≤ k
  · refine ⟨q, ?_, Or.inl rfl⟩
    rw [List.getElem?_set_ne (by omega), ← hq]
    exact (xo_places _ hk).symm
  · obtain ⟨r, rfl, hr⟩ : ∃ r, k = 35 + r ∧ r < 12 := ⟨k - 35, by omega, by omega⟩
    rw [xr_places hr] at hq
    cases hq
    by_cases hrp : r = p
    · subst hrp
      refine ⟨_, by rw [List.getElem?_set_self hlen], Or.inr ⟨_, _, _, _, _, rfl, rfl, xp_arrI fun i hi => ?_⟩⟩
      show (if i = j then x else places (3 * r + i)) = if 3 * r + i = 3 * r + j then x else places (3 * r + i)
      by_cases e : i = j
      · rw [if_pos e, if_pos (by omega)]
      · rw [if_neg e, if_neg (by omega)]
    · refine ⟨_, by rw [List.getElem?_set_ne (by omega)]; exact xr_places hr, Or.inr ⟨_, _, _, _, _, rfl, rfl, xp_arrI fun i hi => ?_⟩⟩
      show places (3 * r + i) = if 3 * r + i = 3 * p + j then x else places (3 * r + i)
      rw [if_neg (by omega)]
/-- the addresses -/
def Xa (a : Nat → Nat) (L : List Nat) : List Nat := [a 0, a 1, a 2, a 3, a 4, a 5, a 6, a 7, a 8, a 9, a 10, a 11, a 12, a 13, a 14, a 15, a 16, a 17, a 18, a 19, a 20, a 21, a 22, a 23, a 24, a 25, a 26, a 27, a 28, a 29, a 30, a 31, a 32, a 33, a 34, a 35, a 36, a 37, a 38, a 39, a 40, a 41, a 42, a 43, a 44, a 45, a 46, a 47, a 48, a 49, a 50, a 51, a 52, a 53, a 54, a 55, a 56, a 57] ++ L
theorem xx_adr : (Xx t a K many settings isVoted lotsNow seen keyOne keyTwo votes looked matched without trio takenStar takenAs takenSpot pairs starArms spotArms isTurn places byStar byFar one usedNow laidMany finding).map (·.1) = Xa a K.L := by
  show (Xc t a K many settings isVoted lotsNow seen keyOne keyTwo votes looked matched without trio takenStar takenAs takenSpot pairs starArms spotArms isTurn places byStar byFar one usedNow laidMany finding ++ va_pl K.L K.f).map (·.1) = _
  rw [List.map_append]
  show _ ++ (K.L.map (fun q => (q, K.f q))).map (·.1) = _
  rw [List.map_map]
  show _ ++ K.L.map (fun q => q) = _
  rw [List.map_id']
  rfl
/-- the cells are apart, and the method's own -/
def XD (A : Nat → Prop) (a : Nat → Nat) (L : List Nat) : Prop := (∀ (i j x : Nat), (Xa a L)[i]? = some x → (Xa a L)[j]? = some x → i = j) ∧ ∀ x ∈ Xa a L, A x
theorem xD {A : Nat → Prop} (h : XD A a K.L) : va_D A (Xx t a K many settings isVoted lotsNow seen keyOne keyTwo votes looked matched without trio takenStar takenAs takenSpot pairs starArms spotArms isTurn places byStar byFar one usedNow laidMany finding) := by
  have e : ∀ (k : Nat) (q : Nat × va_E), (Xx t a K many settings isVoted lotsNow seen keyOne keyTwo votes looked matched without trio takenStar takenAs takenSpot pairs starArms spotArms isTurn places byStar byFar one usedNow laidMany finding)[k]? = some q → (Xa a K.L)[k]? = some q.1 := by
    intro k q hq
    rw [← xx_adr (t := t) (a := a) (K := K) (many := many) (settings := settings) (isVoted := isVoted) (lotsNow := lotsNow) (seen := seen) (keyOne := keyOne) (keyTwo := keyTwo) (votes := votes) (looked := looked) (matched := matched) (without := without) (trio := trio) (takenStar := takenStar) (takenAs := takenAs) (takenSpot := takenSpot) (pairs := pairs) (starArms := starArms) (spotArms := spotArms) (isTurn := isTurn) (places := places) (byStar := byStar) (byFar := byFar) (one := one) (usedNow := usedNow) (laidMany := laidMany) (finding := finding), List.getElem?_map, hq]
    rfl
  exact ⟨fun i j p q hi hj hpq => h.1 i j p.1 (e i p hi) (by rw [hpq]; exact e j q hj), fun k q hk => h.2 _ (List.mem_of_getElem? (e k q hk))⟩
end XWD
