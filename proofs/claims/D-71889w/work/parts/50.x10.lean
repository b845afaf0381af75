/-! the tracker: counts, settings, keys read -/
set_option maxHeartbeats 4000000 in
theorem lx_ones {p : Program} {l : Launch} {e : Env} {s : State} {m : MethodId} {args : Array Value} {below : List Frame} {meth : Method} {c : Code} {Q : State → Prop} {H : Heap} {locs : List Loc} (hx : p.tables.exec = Jvm.exec) (hb : c.code = cX0_ones) (hml : c.maxLocals = 3) : ∀ (f k : Nat) (v : Int32), k < 2 ^ f → f ≤ 8 → ∀ (ls : Array Slot), lv_has ls 3 [(1, .int v), (2, .int (nI k))] → (∀ (ls : Array Slot), lv_has ls 3 [(1, .int (on8 f k v))] → W p l e (rm_ 0 0 0 0) s m args below meth c H locs 0 0 Q (F0 m 21 ls [])) → W p l e (rm_ 0 0 0 0) s m args below meth c H locs 0 0 Q (F0 m 4 ls []) := by
  intro f
  induction f with
  | zero =>
    intro k v hk hf ls hl hex
    obtain rfl : k = 0 := by have : 2 ^ 0 = 1 := rfl; omega
    refine lv_iload_n hx hb dX0_ones_4 rfl (lv_at hl 1 rfl) ?_
    refine lv_if_eq (tgt := 21) hx hb dX0_ones_5 (by decide) (fun c_1 => ?_) (fun c_1 => (c_1 rfl).elim)
    exact hex _ (lv_sub hl [0] rfl)
  | succ f ih =>
    intro k v hk hf ls hl hex
    have p2 : 2 ^ (f + 1) = 2 ^ f + 2 ^ f := by rw [Nat.pow_succ]; omega
    have h256 : 2 ^ f ≤ 128 := Nat.pow_le_pow_right (by decide) (by omega : f ≤ 7)
    by_cases hk0 : k = 0
    · subst hk0
      refine lv_iload_n hx hb dX0_ones_4 rfl (lv_at hl 1 rfl) ?_
      refine lv_if_eq (tgt := 21) hx hb dX0_ones_5 (by decide) (fun c_1 => ?_) (fun c_1 => (c_1 rfl).elim)
      exact hex _ (by rw [on8_0]; exact lv_sub hl [0] rfl)
    · refine lv_iload_n hx hb dX0_ones_4 rfl (lv_at hl 1 rfl) ?_
      refine lv_if_eq (tgt := 21) hx hb dX0_ones_5 (by decide) (fun c_1 => (hk0 ((nI_eq (by omega) (by omega : 0 < 2 ^ 31)).mp c_1)).elim) (fun c_1 => ?_)
      refine lv_iload_n hx hb dX0_ones_8 rfl (lv_at hl 0 rfl) ?_
      refine lv_iload_n hx hb dX0_ones_9 rfl (lv_at hl 1 rfl) ?_
      refine lv_iconst (v := 1) hx hb dX0_ones_10 (by decide) ?_
      refine lv_iand hx hb dX0_ones_11 ?_
      refine r_top (y := nI (k % 2)) (and_1 (by omega)) ?_
      refine lv_iadd hx hb dX0_ones_12 ?_
      refine lv_istore_n (lv' := [(1, .int (v + nI (k % 2))), (2, .int (nI k))]) hx hb dX0_ones_13 rfl hl (by decide) rfl (fun ls hl => ?_)
      refine lv_iload_n hx hb dX0_ones_14 rfl (lv_at hl 1 rfl) ?_
      refine lv_iconst (v := 1) hx hb dX0_ones_15 (by decide) ?_
      refine lv_iushr (v := (((nI k)).toUInt32 >>> ((1 : Int32).toUInt32 &&& Int32.toUInt32 31)).toInt32) hx hb dX0_ones_16 rfl ?_
      refine r_top (y := nI (k / 2)) (shr_1 (by omega)) ?_
      refine lv_istore_n (lv' := [(2, .int (nI (k / 2))), (1, .int (v + nI (k % 2)))]) hx hb dX0_ones_17 rfl hl (by decide) rfl (fun ls hl => ?_)
      refine lv_goto (tgt := 4) hx hb dX0_ones_18 (by decide) ?_
      rw [on8_s hk0] at hex
      exact ih (k / 2) (v + nI (k % 2)) (by omega) (by omega) _ (lv_sub hl [1, 0] rfl) hex

set_option maxHeartbeats 4000000 in
theorem mx_ones (l : Launch) (k : Nat) (hk : k < 256) : Met l yX0_ones (ws_ yX0_ones cX0_ones 3 (some .int)) (rm_ 0 0 0 0) (va_Pc [.int (nI k)] (fun _ => True)) (vp_Si (fun rv => rv = on8 8 k 0)) 0 0 (fun _ => False) := by
  refine mkx_W (by decide) (Nat.le_of_ble_eq_true rfl) ?_
  intro p e s m below meth c ls hx hb hml hr hlk hts hown hnm hv hl
  have hl : lv_has ls 3 [(0, .int (nI k))] := hl
  refine lv_iconst (v := 0) hx hb dX0_ones_0 (by decide) ?_
  refine lv_istore_n (lv' := [(1, .int 0), (0, .int (nI k))]) hx hb dX0_ones_1 rfl hl (by decide) rfl (fun ls hl => ?_)
  refine lv_iload_n hx hb dX0_ones_2 rfl (lv_at hl 1 rfl) ?_
  refine lv_istore_n (lv' := [(2, .int (nI k)), (1, .int 0), (0, .int (nI k))]) hx hb dX0_ones_3 rfl hl (by decide) rfl (fun ls hl => ?_)
  refine lx_ones hx hb hml 8 k 0 (by omega) (Nat.le_refl _) _ (lv_sub hl [1, 0] rfl) (fun ls hl => ?_)
  refine lv_iload_n hx hb dX0_ones_21 rfl (lv_at hl 0 rfl) ?_
  exact W.iret (v := (on8 8 k 0)) hx hb hr (fun tt ht _ => ⟨_, rfl, rfl, ht⟩) (fun _ h => by cases h) dX0_ones_22 hlk

set_option maxHeartbeats 4000000 in
theorem mx_count (l : Launch) (G : va_G) (t : Nat → ClassId) (A : Nat → Prop) (a : Nat → Nat) (cs : Nat → ClassId) (K : XK) (many : (Nat → Int32)) (settings : (Nat → Int32)) (isVoted : Int32) (lotsNow : Int32) (seen : (Nat → Int32)) (keyOne : (Nat → Int32)) (keyTwo : (Nat → Int32)) (votes : (Nat → Int32)) (looked : Int32) (matched : Int32) (without : Int32) (trio : (Nat → Int32)) (takenStar : (Nat → Int32)) (takenAs : (Nat → Int32)) (takenSpot : (Nat → Int32)) (pairs : Int32) (starArms : (Nat → Int64)) (spotArms : (Nat → Int64)) (isTurn : Int32) (places : (Nat → Int32)) (byStar : (Nat → Int32)) (byFar : (Nat → Int32)) (one : (Nat → Int64)) (usedNow : (Nat → Int32)) (laidMany : (Nat → Int32)) (finding : Int32) (dir : (Nat → Int32)) (w : Int32) (hM : Mok many) (hB : BodOk K dir many) (hb0 : ¬ settings 0 = 0) (hX : ArmX dir many) (hV : HavX dir many settings isVoted without ((looked, matched, votes), (takenStar, takenAs, takenSpot, pairs), (isTurn, starArms, spotArms, places), (usedNow, byStar, byFar))) : Met l yX0_count (ws_ yX0_count cX0_count 2 (some .int)) (rm_ 3200 11 1 1) (va_Pc [.ref (a 0), .int w] (xPr G t A a cs K.L (Xx t a K many settings isVoted lotsNow seen keyOne keyTwo votes looked matched without trio takenStar takenAs takenSpot pairs starArms spotArms isTurn places byStar byFar one usedNow laidMany finding))) (va_Qi (fun rv (uv : (Unit) × Int32 × Int32 × Int32 × (Nat → Int32) × (Nat → Int32) × (Nat → Int32) × (Nat → Int32) × Int32 × Int32 × (Nat → Int64) × (Nat → Int64) × (Nat → Int32) × (Nat → Int32) × (Nat → Int32) × (Nat → Int32) × (Nat → Int32) × (Nat → Int32) × (Nat → Int32) × (Nat → Int64)) => rv = cntX dir many settings without finding laidMany w ∧ uv.1 = () ∧ HavX dir many settings uv.2.1 without ((uv.2.2.1, uv.2.2.2.1, uv.2.2.2.2.1), (uv.2.2.2.2.2.1, uv.2.2.2.2.2.2.1, uv.2.2.2.2.2.2.2.1, uv.2.2.2.2.2.2.2.2.1), (uv.2.2.2.2.2.2.2.2.2.1, uv.2.2.2.2.2.2.2.2.2.2.1, uv.2.2.2.2.2.2.2.2.2.2.2.1, uv.2.2.2.2.2.2.2.2.2.2.2.2.1), (uv.2.2.2.2.2.2.2.2.2.2.2.2.2.1, uv.2.2.2.2.2.2.2.2.2.2.2.2.2.2.1, uv.2.2.2.2.2.2.2.2.2.2.2.2.2.2.2.1))) (mB G (fun (uv : (Unit) × Int32 × Int32 × Int32 × (Nat → Int32) × (Nat → Int32) × (Nat → Int32) × (Nat → Int32) × Int32 × Int32 × (Nat → Int64) × (Nat → Int64) × (Nat → Int32) × (Nat → Int32) × (Nat → Int32) × (Nat → Int32) × (Nat → Int32) × (Nat → Int32) × (Nat → Int32) × (Nat → Int64)) => Xx t a K many settings uv.2.1 lotsNow seen uv.2.2.2.2.2.2.2.2.2.2.2.2.2.2.2.2.1 uv.2.2.2.2.2.2.2.2.2.2.2.2.2.2.2.2.2.1 uv.2.2.2.2.1 uv.2.2.1 uv.2.2.2.1 without uv.2.2.2.2.2.2.2.2.2.2.2.2.2.2.2.2.2.2.1 uv.2.2.2.2.2.1 uv.2.2.2.2.2.2.1 uv.2.2.2.2.2.2.2.1 uv.2.2.2.2.2.2.2.2.1 uv.2.2.2.2.2.2.2.2.2.2.1 uv.2.2.2.2.2.2.2.2.2.2.2.1 uv.2.2.2.2.2.2.2.2.2.1 uv.2.2.2.2.2.2.2.2.2.2.2.2.1 uv.2.2.2.2.2.2.2.2.2.2.2.2.2.2.1 uv.2.2.2.2.2.2.2.2.2.2.2.2.2.2.2.1 uv.2.2.2.2.2.2.2.2.2.2.2.2.2.2.2.2.2.2.2 uv.2.2.2.2.2.2.2.2.2.2.2.2.2.1 laidMany finding)) A) 1 1 A := by
  refine mkx_W (by decide) (Nat.le_of_ble_eq_true rfl) ?_
  intro p e s m below meth c ls hx hb hml hr hlk hts hown hnm hv hl
  obtain ⟨hP, hK, hD, hA, hE⟩ := hv
  have hS : va_S A s.heap s.heap [] := va_S.rf
  have hl : lv_has ls 2 [(0, .ref (a 0)), (1, .int w)] := hl
  have h0 : nK many 0 ≤ 12 := (hM 0 (by omega)).2
  have h8 : nK many 1 ≤ 8 := (hM 1 (by omega)).2
  refine lv_iload_n hx hb dX0_count_0 rfl (lv_at hl 1 rfl) ?_
  rcases sw_9 w with hsw | hsw | hsw | hsw | hsw | hsw | hsw | hsw | hsw | hsw
  · refine lv_tableOut (tgt := 99) hx hb dX0_count_1 hsw (by decide) ?_
    refine lv_bipush (v := (-2)) hx hb dX0_count_99 (by decide) ?_
    refine W.widen (k := 1) (n := 1) (Nat.zero_le _) (Nat.zero_le _) ?_
    exact W.iret (v := (-2)) hx hb hr (fun tt ht _ => ⟨⟨_, ((), isVoted, looked, matched, votes, takenStar, takenAs, takenSpot, pairs, isTurn, starArms, spotArms, places, usedNow, byStar, byFar, keyOne, keyTwo, trio, one), rfl, ⟨(by unfold cntX; rw [if_neg (fun q => by rw [q] at hsw; revert hsw; decide), if_neg (fun q => by rw [q] at hsw; revert hsw; decide), if_neg (fun q => by rw [q] at hsw; revert hsw; decide), if_neg (fun q => by rw [q] at hsw; revert hsw; decide), if_neg (fun q => by rw [q] at hsw; revert hsw; decide), if_neg (fun q => by rw [q] at hsw; revert hsw; decide), if_neg (fun q => by rw [q] at hsw; revert hsw; decide), if_neg (fun q => by rw [q] at hsw; revert hsw; decide), if_neg (fun q => by rw [q] at hsw; revert hsw; decide)]), rfl, hV⟩, (show va_P G vwCl ((fun (uv : (Unit) × Int32 × Int32 × Int32 × (Nat → Int32) × (Nat → Int32) × (Nat → Int32) × (Nat → Int32) × Int32 × Int32 × (Nat → Int64) × (Nat → Int64) × (Nat → Int32) × (Nat → Int32) × (Nat → Int32) × (Nat → Int32) × (Nat → Int32) × (Nat → Int32) × (Nat → Int32) × (Nat → Int64)) => Xx t a K many settings uv.2.1 lotsNow seen uv.2.2.2.2.2.2.2.2.2.2.2.2.2.2.2.2.1 uv.2.2.2.2.2.2.2.2.2.2.2.2.2.2.2.2.2.1 uv.2.2.2.2.1 uv.2.2.1 uv.2.2.2.1 without uv.2.2.2.2.2.2.2.2.2.2.2.2.2.2.2.2.2.2.1 uv.2.2.2.2.2.1 uv.2.2.2.2.2.2.1 uv.2.2.2.2.2.2.2.1 uv.2.2.2.2.2.2.2.2.1 uv.2.2.2.2.2.2.2.2.2.2.1 uv.2.2.2.2.2.2.2.2.2.2.2.1 uv.2.2.2.2.2.2.2.2.2.1 uv.2.2.2.2.2.2.2.2.2.2.2.2.1 uv.2.2.2.2.2.2.2.2.2.2.2.2.2.2.1 uv.2.2.2.2.2.2.2.2.2.2.2.2.2.2.2.1 uv.2.2.2.2.2.2.2.2.2.2.2.2.2.2.2.2.2.2.2 uv.2.2.2.2.2.2.2.2.2.2.2.2.2.1 laidMany finding) ((), isVoted, looked, matched, votes, takenStar, takenAs, takenSpot, pairs, isTurn, starArms, spotArms, places, usedNow, byStar, byFar, keyOne, keyTwo, trio, one)) tt.heap from by rw [ht]; exact hP)⟩, hS.F ht⟩) hS.2.2 dX0_count_101 hlk
  · subst hsw
    refine lv_tableIn (tgt := 52) (off := 51) hx hb dX0_count_1 (by decide) (by decide) rfl (by decide) ?_
    refine lv_aload_n hx hb dX0_count_52 rfl (lv_at hl 0 rfl) ?_
    refine va_get (D := G) (ci := 0) (C := RX0) (T := TX0) (N := 32) hx hb hts in_X0 hown hK hP 0 xk_this rfl 4 (by decide) (hts _ q637) (fun _ h => h) rfl dX0_count_53 ?_
    refine lv_iload_n hx hb dX0_count_56 rfl (lv_at hl 1 rfl) ?_
    refine r_iald hx hb hK hP 8 0 xk_many rfl (f := many) 0 (nI_q 0) (by decide) (by decide) dX0_count_57 ?_
    refine W.widen (k := 1) (n := 1) (Nat.zero_le _) (Nat.zero_le _) ?_
    exact W.iret (v := (many 0)) hx hb hr (fun tt ht _ => ⟨⟨_, ((), isVoted, looked, matched, votes, takenStar, takenAs, takenSpot, pairs, isTurn, starArms, spotArms, places, usedNow, byStar, byFar, keyOne, keyTwo, trio, one), rfl, ⟨(by unfold cntX; rw [if_pos rfl]), rfl, hV⟩, (show va_P G vwCl ((fun (uv : (Unit) × Int32 × Int32 × Int32 × (Nat → Int32) × (Nat → Int32) × (Nat → Int32) × (Nat → Int32) × Int32 × Int32 × (Nat → Int64) × (Nat → Int64) × (Nat → Int32) × (Nat → Int32) × (Nat → Int32) × (Nat → Int32) × (Nat → Int32) × (Nat → Int32) × (Nat → Int32) × (Nat → Int64)) => Xx t a K many settings uv.2.1 lotsNow seen uv.2.2.2.2.2.2.2.2.2.2.2.2.2.2.2.2.1 uv.2.2.2.2.2.2.2.2.2.2.2.2.2.2.2.2.2.1 uv.2.2.2.2.1 uv.2.2.1 uv.2.2.2.1 without uv.2.2.2.2.2.2.2.2.2.2.2.2.2.2.2.2.2.2.1 uv.2.2.2.2.2.1 uv.2.2.2.2.2.2.1 uv.2.2.2.2.2.2.2.1 uv.2.2.2.2.2.2.2.2.1 uv.2.2.2.2.2.2.2.2.2.2.1 uv.2.2.2.2.2.2.2.2.2.2.2.1 uv.2.2.2.2.2.2.2.2.2.1 uv.2.2.2.2.2.2.2.2.2.2.2.2.1 uv.2.2.2.2.2.2.2.2.2.2.2.2.2.2.1 uv.2.2.2.2.2.2.2.2.2.2.2.2.2.2.2.1 uv.2.2.2.2.2.2.2.2.2.2.2.2.2.2.2.2.2.2.2 uv.2.2.2.2.2.2.2.2.2.2.2.2.2.1 laidMany finding) ((), isVoted, looked, matched, votes, takenStar, takenAs, takenSpot, pairs, isTurn, starArms, spotArms, places, usedNow, byStar, byFar, keyOne, keyTwo, trio, one)) tt.heap from by rw [ht]; exact hP)⟩, hS.F ht⟩) hS.2.2 dX0_count_58 hlk
  · subst hsw
    refine lv_tableIn (tgt := 52) (off := 51) hx hb dX0_count_1 (by decide) (by decide) rfl (by decide) ?_
    refine lv_aload_n hx hb dX0_count_52 rfl (lv_at hl 0 rfl) ?_
    refine va_get (D := G) (ci := 0) (C := RX0) (T := TX0) (N := 32) hx hb hts in_X0 hown hK hP 0 xk_this rfl 4 (by decide) (hts _ q637) (fun _ h => h) rfl dX0_count_53 ?_
    refine lv_iload_n hx hb dX0_count_56 rfl (lv_at hl 1 rfl) ?_
    refine r_iald hx hb hK hP 8 0 xk_many rfl (f := many) 1 (nI_q 1) (by decide) (by decide) dX0_count_57 ?_
    refine W.widen (k := 1) (n := 1) (Nat.zero_le _) (Nat.zero_le _) ?_
    exact W.iret (v := (many 1)) hx hb hr (fun tt ht _ => ⟨⟨_, ((), isVoted, looked, matched, votes, takenStar, takenAs, takenSpot, pairs, isTurn, starArms, spotArms, places, usedNow, byStar, byFar, keyOne, keyTwo, trio, one), rfl, ⟨(by unfold cntX; rw [if_neg (by decide), if_pos rfl]), rfl, hV⟩, (show va_P G vwCl ((fun (uv : (Unit) × Int32 × Int32 × Int32 × (Nat → Int32) × (Nat → Int32) × (Nat → Int32) × (Nat → Int32) × Int32 × Int32 × (Nat → Int64) × (Nat → Int64) × (Nat → Int32) × (Nat → Int32) × (Nat → Int32) × (Nat → Int32) × (Nat → Int32) × (Nat → Int32) × (Nat → Int32) × (Nat → Int64)) => Xx t a K many settings uv.2.1 lotsNow seen uv.2.2.2.2.2.2.2.2.2.2.2.2.2.2.2.2.1 uv.2.2.2.2.2.2.2.2.2.2.2.2.2.2.2.2.2.1 uv.2.2.2.2.1 uv.2.2.1 uv.2.2.2.1 without uv.2.2.2.2.2.2.2.2.2.2.2.2.2.2.2.2.2.2.1 uv.2.2.2.2.2.1 uv.2.2.2.2.2.2.1 uv.2.2.2.2.2.2.2.1 uv.2.2.2.2.2.2.2.2.1 uv.2.2.2.2.2.2.2.2.2.2.1 uv.2.2.2.2.2.2.2.2.2.2.2.1 uv.2.2.2.2.2.2.2.2.2.1 uv.2.2.2.2.2.2.2.2.2.2.2.2.1 uv.2.2.2.2.2.2.2.2.2.2.2.2.2.2.1 uv.2.2.2.2.2.2.2.2.2.2.2.2.2.2.2.1 uv.2.2.2.2.2.2.2.2.2.2.2.2.2.2.2.2.2.2.2 uv.2.2.2.2.2.2.2.2.2.2.2.2.2.1 laidMany finding) ((), isVoted, looked, matched, votes, takenStar, takenAs, takenSpot, pairs, isTurn, starArms, spotArms, places, usedNow, byStar, byFar, keyOne, keyTwo, trio, one)) tt.heap from by rw [ht]; exact hP)⟩, hS.F ht⟩) hS.2.2 dX0_count_58 hlk
  · subst hsw
    refine lv_tableIn (tgt := 59) (off := 58) hx hb dX0_count_1 (by decide) (by decide) rfl (by decide) ?_
    refine lv_aload_n hx hb dX0_count_59 rfl (lv_at hl 0 rfl) ?_
    refine va_calli (va_runV (As := []) (rest := []) ⟨hx, hb, hml, hown, hts⟩ (mx_pairsOf l G t A a cs K many settings isVoted lotsNow seen keyOne keyTwo votes looked matched without trio takenStar takenAs takenSpot pairs starArms spotArms isTurn places byStar byFar one usedNow laidMany finding dir hM hB hb0 hX hV) (cwV 0 hts (lw_V q842 q844 qs36 q80 q845) rfl rfl rfl cd_X0_pairsOf ⟨Nat.le_of_ble_eq_true rfl, Nat.le_of_ble_eq_true rfl⟩) ⟨xPr_fb, x_recv hP hK, fun U hU hW => ⟨rfl, xPr_of hP hK hD hS hA hE hU hW⟩⟩ rfl rfl hl.1 rfl (lv_room (Nat.le_of_ble_eq_true rfl)) dX0_count_60 ⟨Nat.le_of_ble_eq_true rfl, Nat.le_of_ble_eq_true rfl⟩) hS (fun _ _ h => h) (fun _ h => h) (fun r u tt H locs ht _ hq hP _ hkp hS => ?_)
    obtain ⟨u_1, isVoted_u_1, looked_u_1, matched_u_1, votes_u_1, takenStar_u_1, takenAs_u_1, takenSpot_u_1, pairs_u_1, isTurn_u_1, starArms_u_1, spotArms_u_1, places_u_1, usedNow_u_1, byStar_u_1, byFar_u_1, keyOne_u_1, keyTwo_u_1, trio_u_1, one_u_1⟩ := u
    obtain ⟨rfl, rfl, hR_2⟩ := hq
    have hP : va_P G vwCl (Xx t a K many settings isVoted_u_1 lotsNow seen keyOne_u_1 keyTwo_u_1 votes_u_1 looked_u_1 matched_u_1 without trio_u_1 takenStar_u_1 takenAs_u_1 takenSpot_u_1 pairs_u_1 starArms_u_1 spotArms_u_1 isTurn_u_1 places_u_1 byStar_u_1 byFar_u_1 one_u_1 usedNow_u_1 laidMany finding) H := by rw [← ht]; exact hP
    exact W.iret (v := (ansX dir many settings (settings 1) without).2.1.2.2.2) hx hb hr (fun tt ht _ => ⟨⟨_, ((), isVoted_u_1, looked_u_1, matched_u_1, votes_u_1, takenStar_u_1, takenAs_u_1, takenSpot_u_1, pairs_u_1, isTurn_u_1, starArms_u_1, spotArms_u_1, places_u_1, usedNow_u_1, byStar_u_1, byFar_u_1, keyOne_u_1, keyTwo_u_1, trio_u_1, one_u_1), rfl, ⟨(by unfold cntX; rw [if_neg (by decide), if_neg (by decide), if_pos rfl]), rfl, hR_2⟩, (show va_P G vwCl ((fun (uv : (Unit) × Int32 × Int32 × Int32 × (Nat → Int32) × (Nat → Int32) × (Nat → Int32) × (Nat → Int32) × Int32 × Int32 × (Nat → Int64) × (Nat → Int64) × (Nat → Int32) × (Nat → Int32) × (Nat → Int32) × (Nat → Int32) × (Nat → Int32) × (Nat → Int32) × (Nat → Int32) × (Nat → Int64)) => Xx t a K many settings uv.2.1 lotsNow seen uv.2.2.2.2.2.2.2.2.2.2.2.2.2.2.2.2.1 uv.2.2.2.2.2.2.2.2.2.2.2.2.2.2.2.2.2.1 uv.2.2.2.2.1 uv.2.2.1 uv.2.2.2.1 without uv.2.2.2.2.2.2.2.2.2.2.2.2.2.2.2.2.2.2.1 uv.2.2.2.2.2.1 uv.2.2.2.2.2.2.1 uv.2.2.2.2.2.2.2.1 uv.2.2.2.2.2.2.2.2.1 uv.2.2.2.2.2.2.2.2.2.2.1 uv.2.2.2.2.2.2.2.2.2.2.2.1 uv.2.2.2.2.2.2.2.2.2.1 uv.2.2.2.2.2.2.2.2.2.2.2.2.1 uv.2.2.2.2.2.2.2.2.2.2.2.2.2.2.1 uv.2.2.2.2.2.2.2.2.2.2.2.2.2.2.2.1 uv.2.2.2.2.2.2.2.2.2.2.2.2.2.2.2.2.2.2.2 uv.2.2.2.2.2.2.2.2.2.2.2.2.2.1 laidMany finding) ((), isVoted_u_1, looked_u_1, matched_u_1, votes_u_1, takenStar_u_1, takenAs_u_1, takenSpot_u_1, pairs_u_1, isTurn_u_1, starArms_u_1, spotArms_u_1, places_u_1, usedNow_u_1, byStar_u_1, byFar_u_1, keyOne_u_1, keyTwo_u_1, trio_u_1, one_u_1)) tt.heap from by rw [ht]; exact hP)⟩, hS.F ht⟩) hS.2.2 dX0_count_63 hlk
  · subst hsw
    refine lv_tableIn (tgt := 64) (off := 63) hx hb dX0_count_1 (by decide) (by decide) rfl (by decide) ?_
    refine lv_aload_n hx hb dX0_count_64 rfl (lv_at hl 0 rfl) ?_
    refine va_calli (va_runV (As := []) (rest := []) ⟨hx, hb, hml, hown, hts⟩ (mx_allConfirmed l G t A a cs K many settings isVoted lotsNow seen keyOne keyTwo votes looked matched without trio takenStar takenAs takenSpot pairs starArms spotArms isTurn places byStar byFar one usedNow laidMany finding dir hM hB hb0 hX hV) (cwV 0 hts (lw_V q846 q848 qs37 q80 q849) rfl rfl rfl cd_X0_allConfirmed ⟨Nat.le_of_ble_eq_true rfl, Nat.le_of_ble_eq_true rfl⟩) ⟨xPr_fb, x_recv hP hK, fun U hU hW => ⟨rfl, xPr_of hP hK hD hS hA hE hU hW⟩⟩ rfl rfl hl.1 rfl (lv_room (Nat.le_of_ble_eq_true rfl)) dX0_count_65 ⟨Nat.le_of_ble_eq_true rfl, Nat.le_of_ble_eq_true rfl⟩) hS (fun _ _ h => h) (fun _ h => h) (fun r u tt H locs ht _ hq hP _ hkp hS => ?_)
    obtain ⟨u_3, isVoted_u_3, looked_u_3, matched_u_3, votes_u_3, takenStar_u_3, takenAs_u_3, takenSpot_u_3, pairs_u_3, isTurn_u_3, starArms_u_3, spotArms_u_3, places_u_3, usedNow_u_3, byStar_u_3, byFar_u_3, keyOne_u_3, keyTwo_u_3, trio_u_3, one_u_3⟩ := u
    obtain ⟨rfl, rfl, hR_4⟩ := hq
    have hP : va_P G vwCl (Xx t a K many settings isVoted_u_3 lotsNow seen keyOne_u_3 keyTwo_u_3 votes_u_3 looked_u_3 matched_u_3 without trio_u_3 takenStar_u_3 takenAs_u_3 takenSpot_u_3 pairs_u_3 starArms_u_3 spotArms_u_3 isTurn_u_3 places_u_3 byStar_u_3 byFar_u_3 one_u_3 usedNow_u_3 laidMany finding) H := by rw [← ht]; exact hP
    exact W.iret (v := cnfN (ansX dir many settings (settings 1) without).2.2.2.2.1 (nK many 1)) hx hb hr (fun tt ht _ => ⟨⟨_, ((), isVoted_u_3, looked_u_3, matched_u_3, votes_u_3, takenStar_u_3, takenAs_u_3, takenSpot_u_3, pairs_u_3, isTurn_u_3, starArms_u_3, spotArms_u_3, places_u_3, usedNow_u_3, byStar_u_3, byFar_u_3, keyOne_u_3, keyTwo_u_3, trio_u_3, one_u_3), rfl, ⟨(by unfold cntX; rw [if_neg (by decide), if_neg (by decide), if_neg (by decide), if_pos rfl]), rfl, hR_4⟩, (show va_P G vwCl ((fun (uv : (Unit) × Int32 × Int32 × Int32 × (Nat → Int32) × (Nat → Int32) × (Nat → Int32) × (Nat → Int32) × Int32 × Int32 × (Nat → Int64) × (Nat → Int64) × (Nat → Int32) × (Nat → Int32) × (Nat → Int32) × (Nat → Int32) × (Nat → Int32) × (Nat → Int32) × (Nat → Int32) × (Nat → Int64)) => Xx t a K many settings uv.2.1 lotsNow seen uv.2.2.2.2.2.2.2.2.2.2.2.2.2.2.2.2.1 uv.2.2.2.2.2.2.2.2.2.2.2.2.2.2.2.2.2.1 uv.2.2.2.2.1 uv.2.2.1 uv.2.2.2.1 without uv.2.2.2.2.2.2.2.2.2.2.2.2.2.2.2.2.2.2.1 uv.2.2.2.2.2.1 uv.2.2.2.2.2.2.1 uv.2.2.2.2.2.2.2.1 uv.2.2.2.2.2.2.2.2.1 uv.2.2.2.2.2.2.2.2.2.2.1 uv.2.2.2.2.2.2.2.2.2.2.2.1 uv.2.2.2.2.2.2.2.2.2.1 uv.2.2.2.2.2.2.2.2.2.2.2.2.1 uv.2.2.2.2.2.2.2.2.2.2.2.2.2.2.1 uv.2.2.2.2.2.2.2.2.2.2.2.2.2.2.2.1 uv.2.2.2.2.2.2.2.2.2.2.2.2.2.2.2.2.2.2.2 uv.2.2.2.2.2.2.2.2.2.2.2.2.2.1 laidMany finding) ((), isVoted_u_3, looked_u_3, matched_u_3, votes_u_3, takenStar_u_3, takenAs_u_3, takenSpot_u_3, pairs_u_3, isTurn_u_3, starArms_u_3, spotArms_u_3, places_u_3, usedNow_u_3, byStar_u_3, byFar_u_3, keyOne_u_3, keyTwo_u_3, trio_u_3, one_u_3)) tt.heap from by rw [ht]; exact hP)⟩, hS.F ht⟩) hS.2.2 dX0_count_68 hlk
  · subst hsw
    refine lv_tableIn (tgt := 69) (off := 68) hx hb dX0_count_1 (by decide) (by decide) rfl (by decide) ?_
    refine lv_aload_n hx hb dX0_count_69 rfl (lv_at hl 0 rfl) ?_
    refine va_calli (va_runV (As := []) (rest := []) ⟨hx, hb, hml, hown, hts⟩ (mx_allVotes l G t A a cs K many settings isVoted lotsNow seen keyOne keyTwo votes looked matched without trio takenStar takenAs takenSpot pairs starArms spotArms isTurn places byStar byFar one usedNow laidMany finding dir hM hB hb0 hX hV) (cwV 0 hts (lw_V q850 q852 qs38 q80 q853) rfl rfl rfl cd_X0_allVotes ⟨Nat.le_of_ble_eq_true rfl, Nat.le_of_ble_eq_true rfl⟩) ⟨xPr_fb, x_recv hP hK, fun U hU hW => ⟨rfl, xPr_of hP hK hD hS hA hE hU hW⟩⟩ rfl rfl hl.1 rfl (lv_room (Nat.le_of_ble_eq_true rfl)) dX0_count_70 ⟨Nat.le_of_ble_eq_true rfl, Nat.le_of_ble_eq_true rfl⟩) hS (fun _ _ h => h) (fun _ h => h) (fun r u tt H locs ht _ hq hP _ hkp hS => ?_)
    obtain ⟨u_5, isVoted_u_5, looked_u_5, matched_u_5, votes_u_5, takenStar_u_5, takenAs_u_5, takenSpot_u_5, pairs_u_5, isTurn_u_5, starArms_u_5, spotArms_u_5, places_u_5, usedNow_u_5, byStar_u_5, byFar_u_5, keyOne_u_5, keyTwo_u_5, trio_u_5, one_u_5⟩ := u
    obtain ⟨rfl, rfl, hR_6⟩ := hq
    have hP : va_P G vwCl (Xx t a K many settings isVoted_u_5 lotsNow seen keyOne_u_5 keyTwo_u_5 votes_u_5 looked_u_5 matched_u_5 without trio_u_5 takenStar_u_5 takenAs_u_5 takenSpot_u_5 pairs_u_5 starArms_u_5 spotArms_u_5 isTurn_u_5 places_u_5 byStar_u_5 byFar_u_5 one_u_5 usedNow_u_5 laidMany finding) H := by rw [← ht]; exact hP
    exact W.iret (v := 3 * (ansX dir many settings (settings 1) without).1.2.1) hx hb hr (fun tt ht _ => ⟨⟨_, ((), isVoted_u_5, looked_u_5, matched_u_5, votes_u_5, takenStar_u_5, takenAs_u_5, takenSpot_u_5, pairs_u_5, isTurn_u_5, starArms_u_5, spotArms_u_5, places_u_5, usedNow_u_5, byStar_u_5, byFar_u_5, keyOne_u_5, keyTwo_u_5, trio_u_5, one_u_5), rfl, ⟨(by unfold cntX; rw [if_neg (by decide), if_neg (by decide), if_neg (by decide), if_neg (by decide), if_pos rfl]), rfl, hR_6⟩, (show va_P G vwCl ((fun (uv : (Unit) × Int32 × Int32 × Int32 × (Nat → Int32) × (Nat → Int32) × (Nat → Int32) × (Nat → Int32) × Int32 × Int32 × (Nat → Int64) × (Nat → Int64) × (Nat → Int32) × (Nat → Int32) × (Nat → Int32) × (Nat → Int32) × (Nat → Int32) × (Nat → Int32) × (Nat → Int32) × (Nat → Int64)) => Xx t a K many settings uv.2.1 lotsNow seen uv.2.2.2.2.2.2.2.2.2.2.2.2.2.2.2.2.1 uv.2.2.2.2.2.2.2.2.2.2.2.2.2.2.2.2.2.1 uv.2.2.2.2.1 uv.2.2.1 uv.2.2.2.1 without uv.2.2.2.2.2.2.2.2.2.2.2.2.2.2.2.2.2.2.1 uv.2.2.2.2.2.1 uv.2.2.2.2.2.2.1 uv.2.2.2.2.2.2.2.1 uv.2.2.2.2.2.2.2.2.1 uv.2.2.2.2.2.2.2.2.2.2.1 uv.2.2.2.2.2.2.2.2.2.2.2.1 uv.2.2.2.2.2.2.2.2.2.1 uv.2.2.2.2.2.2.2.2.2.2.2.2.1 uv.2.2.2.2.2.2.2.2.2.2.2.2.2.2.1 uv.2.2.2.2.2.2.2.2.2.2.2.2.2.2.2.1 uv.2.2.2.2.2.2.2.2.2.2.2.2.2.2.2.2.2.2.2 uv.2.2.2.2.2.2.2.2.2.2.2.2.2.1 laidMany finding) ((), isVoted_u_5, looked_u_5, matched_u_5, votes_u_5, takenStar_u_5, takenAs_u_5, takenSpot_u_5, pairs_u_5, isTurn_u_5, starArms_u_5, spotArms_u_5, places_u_5, usedNow_u_5, byStar_u_5, byFar_u_5, keyOne_u_5, keyTwo_u_5, trio_u_5, one_u_5)) tt.heap from by rw [ht]; exact hP)⟩, hS.F ht⟩) hS.2.2 dX0_count_73 hlk
  · subst hsw
    refine lv_tableIn (tgt := 74) (off := 73) hx hb dX0_count_1 (by decide) (by decide) rfl (by decide) ?_
    refine lv_aload_n hx hb dX0_count_74 rfl (lv_at hl 0 rfl) ?_
    refine va_get (D := G) (ci := 0) (C := RX0) (T := TX0) (N := 32) hx hb hts in_X0 hown hK hP 0 xk_this rfl 5 (by decide) (hts _ q638) (fun _ h => h) rfl dX0_count_75 ?_
    refine lv_iconst (v := 1) hx hb dX0_count_78 (by decide) ?_
    refine r_iald hx hb hK hP 9 0 xk_settings rfl (f := settings) 1 (nI_q 1) (by decide) (by decide) dX0_count_79 ?_
    refine W.widen (k := 1) (n := 1) (Nat.zero_le _) (Nat.zero_le _) ?_
    exact W.iret (v := (settings 1)) hx hb hr (fun tt ht _ => ⟨⟨_, ((), isVoted, looked, matched, votes, takenStar, takenAs, takenSpot, pairs, isTurn, starArms, spotArms, places, usedNow, byStar, byFar, keyOne, keyTwo, trio, one), rfl, ⟨(by unfold cntX; rw [if_neg (by decide), if_neg (by decide), if_neg (by decide), if_neg (by decide), if_neg (by decide), if_pos rfl]), rfl, hV⟩, (show va_P G vwCl ((fun (uv : (Unit) × Int32 × Int32 × Int32 × (Nat → Int32) × (Nat → Int32) × (Nat → Int32) × (Nat → Int32) × Int32 × Int32 × (Nat → Int64) × (Nat → Int64) × (Nat → Int32) × (Nat → Int32) × (Nat → Int32) × (Nat → Int32) × (Nat → Int32) × (Nat → Int32) × (Nat → Int32) × (Nat → Int64)) => Xx t a K many settings uv.2.1 lotsNow seen uv.2.2.2.2.2.2.2.2.2.2.2.2.2.2.2.2.1 uv.2.2.2.2.2.2.2.2.2.2.2.2.2.2.2.2.2.1 uv.2.2.2.2.1 uv.2.2.1 uv.2.2.2.1 without uv.2.2.2.2.2.2.2.2.2.2.2.2.2.2.2.2.2.2.1 uv.2.2.2.2.2.1 uv.2.2.2.2.2.2.1 uv.2.2.2.2.2.2.2.1 uv.2.2.2.2.2.2.2.2.1 uv.2.2.2.2.2.2.2.2.2.2.1 uv.2.2.2.2.2.2.2.2.2.2.2.1 uv.2.2.2.2.2.2.2.2.2.1 uv.2.2.2.2.2.2.2.2.2.2.2.2.1 uv.2.2.2.2.2.2.2.2.2.2.2.2.2.2.1 uv.2.2.2.2.2.2.2.2.2.2.2.2.2.2.2.1 uv.2.2.2.2.2.2.2.2.2.2.2.2.2.2.2.2.2.2.2 uv.2.2.2.2.2.2.2.2.2.2.2.2.2.1 laidMany finding) ((), isVoted, looked, matched, votes, takenStar, takenAs, takenSpot, pairs, isTurn, starArms, spotArms, places, usedNow, byStar, byFar, keyOne, keyTwo, trio, one)) tt.heap from by rw [ht]; exact hP)⟩, hS.F ht⟩) hS.2.2 dX0_count_80 hlk
  · subst hsw
    refine lv_tableIn (tgt := 81) (off := 80) hx hb dX0_count_1 (by decide) (by decide) rfl (by decide) ?_
    refine lv_aload_n hx hb dX0_count_81 rfl (lv_at hl 0 rfl) ?_
    refine vp_callSi (W.runV (As := []) (rest := []) ⟨hx, hb, hml, hown, hts⟩ (mx_allLaid l G t A a cs K many settings isVoted lotsNow seen keyOne keyTwo votes looked matched without trio takenStar takenAs takenSpot pairs starArms spotArms isTurn places byStar byFar one usedNow laidMany finding dir) (cwV 0 hts (lw_V q854 q856 qs39 q80 q857) rfl rfl rfl cd_X0_allLaid ⟨Nat.le_of_ble_eq_true rfl, Nat.le_of_ble_eq_true rfl⟩) ⟨xPr_fb, x_recv hP hK, fun U hU hW => ⟨rfl, xPr_of hP hK hD hS hA hE hU hW⟩⟩ rfl rfl hl.1 rfl (lv_room (Nat.le_of_ble_eq_true rfl)) dX0_count_82 ⟨Nat.le_of_ble_eq_true rfl, Nat.le_of_ble_eq_true rfl⟩) (fun r hr => ?_)
    subst hr
    refine W.widen (k := 1) (n := 1) (Nat.zero_le _) (Nat.zero_le _) ?_
    exact W.iret (v := allL laidMany) hx hb hr (fun tt ht _ => ⟨⟨_, ((), isVoted, looked, matched, votes, takenStar, takenAs, takenSpot, pairs, isTurn, starArms, spotArms, places, usedNow, byStar, byFar, keyOne, keyTwo, trio, one), rfl, ⟨(by unfold cntX; rw [if_neg (by decide), if_neg (by decide), if_neg (by decide), if_neg (by decide), if_neg (by decide), if_neg (by decide), if_pos rfl]), rfl, hV⟩, (show va_P G vwCl ((fun (uv : (Unit) × Int32 × Int32 × Int32 × (Nat → Int32) × (Nat → Int32) × (Nat → Int32) × (Nat → Int32) × Int32 × Int32 × (Nat → Int64) × (Nat → Int64) × (Nat → Int32) × (Nat → Int32) × (Nat → Int32) × (Nat → Int32) × (Nat → Int32) × (Nat → Int32) × (Nat → Int32) × (Nat → Int64)) => Xx t a K many settings uv.2.1 lotsNow seen uv.2.2.2.2.2.2.2.2.2.2.2.2.2.2.2.2.1 uv.2.2.2.2.2.2.2.2.2.2.2.2.2.2.2.2.2.1 uv.2.2.2.2.1 uv.2.2.1 uv.2.2.2.1 without uv.2.2.2.2.2.2.2.2.2.2.2.2.2.2.2.2.2.2.1 uv.2.2.2.2.2.1 uv.2.2.2.2.2.2.1 uv.2.2.2.2.2.2.2.1 uv.2.2.2.2.2.2.2.2.1 uv.2.2.2.2.2.2.2.2.2.2.1 uv.2.2.2.2.2.2.2.2.2.2.2.1 uv.2.2.2.2.2.2.2.2.2.1 uv.2.2.2.2.2.2.2.2.2.2.2.2.1 uv.2.2.2.2.2.2.2.2.2.2.2.2.2.2.1 uv.2.2.2.2.2.2.2.2.2.2.2.2.2.2.2.1 uv.2.2.2.2.2.2.2.2.2.2.2.2.2.2.2.2.2.2.2 uv.2.2.2.2.2.2.2.2.2.2.2.2.2.1 laidMany finding) ((), isVoted, looked, matched, votes, takenStar, takenAs, takenSpot, pairs, isTurn, starArms, spotArms, places, usedNow, byStar, byFar, keyOne, keyTwo, trio, one)) tt.heap from by rw [ht]; exact hP)⟩, hS.F ht⟩) hS.2.2 dX0_count_85 hlk
  · subst hsw
    refine lv_tableIn (tgt := 86) (off := 85) hx hb dX0_count_1 (by decide) (by decide) rfl (by decide) ?_
    refine lv_aload_n hx hb dX0_count_86 rfl (lv_at hl 0 rfl) ?_
    refine va_calli (va_runV (As := []) (rest := []) ⟨hx, hb, hml, hown, hts⟩ (mx_wrongOf l G t A a cs K many settings isVoted lotsNow seen keyOne keyTwo votes looked matched without trio takenStar takenAs takenSpot pairs starArms spotArms isTurn places byStar byFar one usedNow laidMany finding dir hM hB hb0 hX hV) (cwV 0 hts (lw_V q401 q403 qs28 q80 q404) rfl rfl rfl cd_X0_wrongOf ⟨Nat.le_of_ble_eq_true rfl, Nat.le_of_ble_eq_true rfl⟩) ⟨xPr_fb, x_recv hP hK, fun U hU hW => ⟨rfl, xPr_of hP hK hD hS hA hE hU hW⟩⟩ rfl rfl hl.1 rfl (lv_room (Nat.le_of_ble_eq_true rfl)) dX0_count_87 ⟨Nat.le_of_ble_eq_true rfl, Nat.le_of_ble_eq_true rfl⟩) hS (fun _ _ h => h) (fun _ h => h) (fun r u tt H locs ht _ hq hP _ hkp hS => ?_)
    obtain ⟨u_7, isVoted_u_7, looked_u_7, matched_u_7, votes_u_7, takenStar_u_7, takenAs_u_7, takenSpot_u_7, pairs_u_7, isTurn_u_7, starArms_u_7, spotArms_u_7, places_u_7, usedNow_u_7, byStar_u_7, byFar_u_7, keyOne_u_7, keyTwo_u_7, trio_u_7, one_u_7⟩ := u
    obtain ⟨rfl, rfl, hR_8⟩ := hq
    have hP : va_P G vwCl (Xx t a K many settings isVoted_u_7 lotsNow seen keyOne_u_7 keyTwo_u_7 votes_u_7 looked_u_7 matched_u_7 without trio_u_7 takenStar_u_7 takenAs_u_7 takenSpot_u_7 pairs_u_7 starArms_u_7 spotArms_u_7 isTurn_u_7 places_u_7 byStar_u_7 byFar_u_7 one_u_7 usedNow_u_7 laidMany finding) H := by rw [← ht]; exact hP
    obtain ⟨kw, hkw, ekw⟩ := wrgX_nat (ansX dir many settings (settings 1) without).2.1.1 (ansX dir many settings (settings 1) without).2.2.2.2.1 (nK many 1) h8
    have hkw : kw < 256 := Nat.lt_of_lt_of_le hkw (Nat.pow_le_pow_right (by decide) h8)
    refine r_stk (st' := [.int (nI kw)]) (lc_i ekw rfl) ?_
    refine vp_callSi (W.runS (As := [.int (nI kw)]) (rest := []) ⟨hx, hb, hml, hown, hts⟩ (mx_ones l kw (by omega)) (va_cwS 1 hts (lw_S q858 q859 q80 q860) rfl rfl rfl cd_X0_ones.2 ⟨Nat.le_of_ble_eq_true rfl, Nat.le_of_ble_eq_true rfl⟩) ⟨pT_fb, fun U hU hW => ⟨rfl, trivial⟩⟩ rfl rfl hl.1 rfl (lv_room (Nat.le_of_ble_eq_true rfl)) dX0_count_90 ⟨Nat.le_of_ble_eq_true rfl, Nat.le_of_ble_eq_true rfl⟩) (fun r hr => ?_)
    subst hr
    exact W.iret (v := on8 8 kw 0) hx hb hr (fun tt ht _ => ⟨⟨_, ((), isVoted_u_7, looked_u_7, matched_u_7, votes_u_7, takenStar_u_7, takenAs_u_7, takenSpot_u_7, pairs_u_7, isTurn_u_7, starArms_u_7, spotArms_u_7, places_u_7, usedNow_u_7, byStar_u_7, byFar_u_7, keyOne_u_7, keyTwo_u_7, trio_u_7, one_u_7), rfl, ⟨(by unfold cntX; rw [if_neg (by decide), if_neg (by decide), if_neg (by decide), if_neg (by decide), if_neg (by decide), if_neg (by decide), if_neg (by decide), if_pos rfl]; rw [ekw, tn_nI (by omega)]), rfl, hR_8⟩, (show va_P G vwCl ((fun (uv : (Unit) × Int32 × Int32 × Int32 × (Nat → Int32) × (Nat → Int32) × (Nat → Int32) × (Nat → Int32) × Int32 × Int32 × (Nat → Int64) × (Nat → Int64) × (Nat → Int32) × (Nat → Int32) × (Nat → Int32) × (Nat → Int32) × (Nat → Int32) × (Nat → Int32) × (Nat → Int32) × (Nat → Int64)) => Xx t a K many settings uv.2.1 lotsNow seen uv.2.2.2.2.2.2.2.2.2.2.2.2.2.2.2.2.1 uv.2.2.2.2.2.2.2.2.2.2.2.2.2.2.2.2.2.1 uv.2.2.2.2.1 uv.2.2.1 uv.2.2.2.1 without uv.2.2.2.2.2.2.2.2.2.2.2.2.2.2.2.2.2.2.1 uv.2.2.2.2.2.1 uv.2.2.2.2.2.2.1 uv.2.2.2.2.2.2.2.1 uv.2.2.2.2.2.2.2.2.1 uv.2.2.2.2.2.2.2.2.2.2.1 uv.2.2.2.2.2.2.2.2.2.2.2.1 uv.2.2.2.2.2.2.2.2.2.1 uv.2.2.2.2.2.2.2.2.2.2.2.2.1 uv.2.2.2.2.2.2.2.2.2.2.2.2.2.2.1 uv.2.2.2.2.2.2.2.2.2.2.2.2.2.2.2.1 uv.2.2.2.2.2.2.2.2.2.2.2.2.2.2.2.2.2.2.2 uv.2.2.2.2.2.2.2.2.2.2.2.2.2.1 laidMany finding) ((), isVoted_u_7, looked_u_7, matched_u_7, votes_u_7, takenStar_u_7, takenAs_u_7, takenSpot_u_7, pairs_u_7, isTurn_u_7, starArms_u_7, spotArms_u_7, places_u_7, usedNow_u_7, byStar_u_7, byFar_u_7, keyOne_u_7, keyTwo_u_7, trio_u_7, one_u_7)) tt.heap from by rw [ht]; exact hP)⟩, hS.F ht⟩) hS.2.2 dX0_count_93 hlk
  · subst hsw
    refine lv_tableIn (tgt := 94) (off := 93) hx hb dX0_count_1 (by decide) (by decide) rfl (by decide) ?_
    refine lv_aload_n hx hb dX0_count_94 rfl (lv_at hl 0 rfl) ?_
    refine va_get (D := G) (ci := 0) (C := RX0) (T := TX0) (N := 32) hx hb hts in_X0 hown hK hP 0 xk_this rfl 31 (by decide) (hts _ q664) (fun _ h => h) rfl dX0_count_95 ?_
    refine W.widen (k := 1) (n := 1) (Nat.zero_le _) (Nat.zero_le _) ?_
    exact W.iret (v := finding) hx hb hr (fun tt ht _ => ⟨⟨_, ((), isVoted, looked, matched, votes, takenStar, takenAs, takenSpot, pairs, isTurn, starArms, spotArms, places, usedNow, byStar, byFar, keyOne, keyTwo, trio, one), rfl, ⟨(by unfold cntX; rw [if_neg (by decide), if_neg (by decide), if_neg (by decide), if_neg (by decide), if_neg (by decide), if_neg (by decide), if_neg (by decide), if_neg (by decide), if_pos rfl]), rfl, hV⟩, (show va_P G vwCl ((fun (uv : (Unit) × Int32 × Int32 × Int32 × (Nat → Int32) × (Nat → Int32) × (Nat → Int32) × (Nat → Int32) × Int32 × Int32 × (Nat → Int64) × (Nat → Int64) × (Nat → Int32) × (Nat → Int32) × (Nat → Int32) × (Nat → Int32) × (Nat → Int32) × (Nat → Int32) × (Nat → Int32) × (Nat → Int64)) => Xx t a K many settings uv.2.1 lotsNow seen uv.2.2.2.2.2.2.2.2.2.2.2.2.2.2.2.2.1 uv.2.2.2.2.2.2.2.2.2.2.2.2.2.2.2.2.2.1 uv.2.2.2.2.1 uv.2.2.1 uv.2.2.2.1 without uv.2.2.2.2.2.2.2.2.2.2.2.2.2.2.2.2.2.2.1 uv.2.2.2.2.2.1 uv.2.2.2.2.2.2.1 uv.2.2.2.2.2.2.2.1 uv.2.2.2.2.2.2.2.2.1 uv.2.2.2.2.2.2.2.2.2.2.1 uv.2.2.2.2.2.2.2.2.2.2.2.1 uv.2.2.2.2.2.2.2.2.2.1 uv.2.2.2.2.2.2.2.2.2.2.2.2.1 uv.2.2.2.2.2.2.2.2.2.2.2.2.2.2.1 uv.2.2.2.2.2.2.2.2.2.2.2.2.2.2.2.1 uv.2.2.2.2.2.2.2.2.2.2.2.2.2.2.2.2.2.2.2 uv.2.2.2.2.2.2.2.2.2.2.2.2.2.1 laidMany finding) ((), isVoted, looked, matched, votes, takenStar, takenAs, takenSpot, pairs, isTurn, starArms, spotArms, places, usedNow, byStar, byFar, keyOne, keyTwo, trio, one)) tt.heap from by rw [ht]; exact hP)⟩, hS.F ht⟩) hS.2.2 dX0_count_98 hlk

set_option maxHeartbeats 4000000 in
theorem mx_isSetting (l : Launch) (w : Int32) (v : Int32) : Met l yX0_isSetting (ws_ yX0_isSetting cX0_isSetting 2 (some .boolean)) (rm_ 0 1 0 0) (va_Pc [.int w, .int v] (fun _ => True)) (vp_Si (fun rv => rv = b2i (setP w v))) 0 0 (fun _ => False) := by
  refine mkx_W (by decide) (Nat.le_of_ble_eq_true rfl) ?_
  intro p e s m below meth c ls hx hb hml hr hlk hts hown hnm hv hl
  have hl : lv_has ls 2 [(0, .int w), (1, .int v)] := hl
  refine lv_iload_n hx hb dX0_isSetting_0 rfl (lv_at hl 0 rfl) ?_
  rcases sw_3 w with hsw | hsw | hsw | hsw
  · refine lv_tableOut (tgt := 54) hx hb dX0_isSetting_1 hsw (by decide) ?_
    refine lv_iload_n hx hb dX0_isSetting_54 rfl (lv_at hl 0 rfl) ?_
    refine lv_iconst (v := 3) hx hb dX0_isSetting_55 (by decide) ?_
    refine lv_icmp_ne (tgt := 74) hx hb dX0_isSetting_56 (by decide) (fun c_1 => ?_) (fun c_1 => ?_)
    · refine lv_iconst (v := 0) hx hb dX0_isSetting_74 (by decide) ?_
      exact W.zret (v := 0) hx hb hr rfl (fun tt ht _ => ⟨_, rfl, (b2i_f (fun z => by rcases z with ⟨q, h⟩ | ⟨q, h⟩ | ⟨q, h⟩ | ⟨q, h⟩ <;> first | exact absurd q c_1 | (rw [q] at hsw; revert hsw; decide))).symm, ht⟩) (fun _ h => by cases h) dX0_isSetting_75 hlk
    · refine lv_iload_n hx hb dX0_isSetting_59 rfl (lv_at hl 1 rfl) ?_
      refine lv_iconst (v := 0) hx hb dX0_isSetting_60 (by decide) ?_
      refine lv_sipush (v := 300) hx hb dX0_isSetting_61 (by decide) ?_
      refine vp_callSi (W.runS (As := [.int v, .int 0, .int 300]) (rest := []) ⟨hx, hb, hml, hown, hts⟩ (mx_in l v (0 : Int32) (300 : Int32)) (va_cwS 3 hts (lw_S q108 q109 q80 q110) rfl rfl rfl cd_X0_in.2 ⟨Nat.le_of_ble_eq_true rfl, Nat.le_of_ble_eq_true rfl⟩) ⟨pT_fb, fun U hU hW => ⟨rfl, trivial⟩⟩ rfl rfl hl.1 rfl (lv_room (Nat.le_of_ble_eq_true rfl)) dX0_isSetting_64 ⟨Nat.le_of_ble_eq_true rfl, Nat.le_of_ble_eq_true rfl⟩) (fun r hr => ?_)
      subst hr
      refine r_top (y := b2i (rng v 0 300)) (b2i_c (by simp [rng])) ?_
      refine rb_eq (tgt := 74) hx hb dX0_isSetting_67 (by decide) (fun c_2 => ?_) (fun c_2 => ?_)
      · refine lv_iconst (v := 0) hx hb dX0_isSetting_74 (by decide) ?_
        exact W.zret (v := 0) hx hb hr rfl (fun tt ht _ => ⟨_, rfl, (b2i_f (fun z => by rcases z with ⟨q, h⟩ | ⟨q, h⟩ | ⟨q, h⟩ | ⟨q, h⟩ <;> first | exact absurd h c_2 | (rw [q] at hsw; revert hsw; decide))).symm, ht⟩) (fun _ h => by cases h) dX0_isSetting_75 hlk
      · refine lv_iconst (v := 1) hx hb dX0_isSetting_70 (by decide) ?_
        refine lv_goto (tgt := 75) hx hb dX0_isSetting_71 (by decide) ?_
        exact W.zret (v := 1) hx hb hr rfl (fun tt ht _ => ⟨_, rfl, (b2i_t (Or.inr (Or.inr (Or.inr ⟨c_1, c_2⟩)))).symm, ht⟩) (fun _ h => by cases h) dX0_isSetting_75 hlk
  · subst hsw
    refine lv_tableIn (tgt := 28) (off := 27) hx hb dX0_isSetting_1 (by decide) (by decide) rfl (by decide) ?_
    refine lv_iload_n hx hb dX0_isSetting_28 rfl (lv_at hl 1 rfl) ?_
    refine lv_iconst (v := 1) hx hb dX0_isSetting_29 (by decide) ?_
    refine lv_sipush (v := 9999) hx hb dX0_isSetting_30 (by decide) ?_
    refine vp_callSi (W.runS (As := [.int v, .int 1, .int 9999]) (rest := []) ⟨hx, hb, hml, hown, hts⟩ (mx_in l v (1 : Int32) (9999 : Int32)) (va_cwS 3 hts (lw_S q108 q109 q80 q110) rfl rfl rfl cd_X0_in.2 ⟨Nat.le_of_ble_eq_true rfl, Nat.le_of_ble_eq_true rfl⟩) ⟨pT_fb, fun U hU hW => ⟨rfl, trivial⟩⟩ rfl rfl hl.1 rfl (lv_room (Nat.le_of_ble_eq_true rfl)) dX0_isSetting_33 ⟨Nat.le_of_ble_eq_true rfl, Nat.le_of_ble_eq_true rfl⟩) (fun r hr => ?_)
    subst hr
    refine r_top (y := b2i (rng v 1 9999)) (b2i_c (by simp [rng])) ?_
    exact W.zret (v := b2i (rng v 1 9999)) hx hb hr b2i_nz (fun tt ht _ => ⟨_, rfl, (b2i_c ⟨fun h => Or.inl ⟨rfl, h⟩, fun h => by rcases h with ⟨q, h⟩ | ⟨q, h⟩ | ⟨q, h⟩ | ⟨q, h⟩ <;> first | exact h | (exact absurd q (by decide))⟩), ht⟩) (fun _ h => by cases h) dX0_isSetting_36 hlk
  · subst hsw
    refine lv_tableIn (tgt := 37) (off := 36) hx hb dX0_isSetting_1 (by decide) (by decide) rfl (by decide) ?_
    refine lv_iload_n hx hb dX0_isSetting_37 rfl (lv_at hl 1 rfl) ?_
    refine lv_iconst (v := 0) hx hb dX0_isSetting_38 (by decide) ?_
    refine lv_sipush (v := 9999) hx hb dX0_isSetting_39 (by decide) ?_
    refine vp_callSi (W.runS (As := [.int v, .int 0, .int 9999]) (rest := []) ⟨hx, hb, hml, hown, hts⟩ (mx_in l v (0 : Int32) (9999 : Int32)) (va_cwS 3 hts (lw_S q108 q109 q80 q110) rfl rfl rfl cd_X0_in.2 ⟨Nat.le_of_ble_eq_true rfl, Nat.le_of_ble_eq_true rfl⟩) ⟨pT_fb, fun U hU hW => ⟨rfl, trivial⟩⟩ rfl rfl hl.1 rfl (lv_room (Nat.le_of_ble_eq_true rfl)) dX0_isSetting_42 ⟨Nat.le_of_ble_eq_true rfl, Nat.le_of_ble_eq_true rfl⟩) (fun r hr => ?_)
    subst hr
    refine r_top (y := b2i (rng v 0 9999)) (b2i_c (by simp [rng])) ?_
    exact W.zret (v := b2i (rng v 0 9999)) hx hb hr b2i_nz (fun tt ht _ => ⟨_, rfl, (b2i_c ⟨fun h => Or.inr (Or.inl ⟨rfl, h⟩), fun h => by rcases h with ⟨q, h⟩ | ⟨q, h⟩ | ⟨q, h⟩ | ⟨q, h⟩ <;> first | exact h | (exact absurd q (by decide))⟩), ht⟩) (fun _ h => by cases h) dX0_isSetting_45 hlk
  · subst hsw
    refine lv_tableIn (tgt := 46) (off := 45) hx hb dX0_isSetting_1 (by decide) (by decide) rfl (by decide) ?_
    refine lv_iload_n hx hb dX0_isSetting_46 rfl (lv_at hl 1 rfl) ?_
    refine lv_iconst (v := 1) hx hb dX0_isSetting_47 (by decide) ?_
    refine lv_bipush (v := 99) hx hb dX0_isSetting_48 (by decide) ?_
    refine vp_callSi (W.runS (As := [.int v, .int 1, .int 99]) (rest := []) ⟨hx, hb, hml, hown, hts⟩ (mx_in l v (1 : Int32) (99 : Int32)) (va_cwS 3 hts (lw_S q108 q109 q80 q110) rfl rfl rfl cd_X0_in.2 ⟨Nat.le_of_ble_eq_true rfl, Nat.le_of_ble_eq_true rfl⟩) ⟨pT_fb, fun U hU hW => ⟨rfl, trivial⟩⟩ rfl rfl hl.1 rfl (lv_room (Nat.le_of_ble_eq_true rfl)) dX0_isSetting_50 ⟨Nat.le_of_ble_eq_true rfl, Nat.le_of_ble_eq_true rfl⟩) (fun r hr => ?_)
    subst hr
    refine r_top (y := b2i (rng v 1 99)) (b2i_c (by simp [rng])) ?_
    exact W.zret (v := b2i (rng v 1 99)) hx hb hr b2i_nz (fun tt ht _ => ⟨_, rfl, (b2i_c ⟨fun h => Or.inr (Or.inr (Or.inl ⟨rfl, h⟩)), fun h => by rcases h with ⟨q, h⟩ | ⟨q, h⟩ | ⟨q, h⟩ | ⟨q, h⟩ <;> first | exact h | (exact absurd q (by decide))⟩), ht⟩) (fun _ h => by cases h) dX0_isSetting_53 hlk

set_option maxHeartbeats 4000000 in
theorem mx_set (l : Launch) (G : va_G) (t : Nat → ClassId) (A : Nat → Prop) (a : Nat → Nat) (cs : Nat → ClassId) (K : XK) (many : (Nat → Int32)) (settings : (Nat → Int32)) (isVoted : Int32) (lotsNow : Int32) (seen : (Nat → Int32)) (keyOne : (Nat → Int32)) (keyTwo : (Nat → Int32)) (votes : (Nat → Int32)) (looked : Int32) (matched : Int32) (without : Int32) (trio : (Nat → Int32)) (takenStar : (Nat → Int32)) (takenAs : (Nat → Int32)) (takenSpot : (Nat → Int32)) (pairs : Int32) (starArms : (Nat → Int64)) (spotArms : (Nat → Int64)) (isTurn : Int32) (places : (Nat → Int32)) (byStar : (Nat → Int32)) (byFar : (Nat → Int32)) (one : (Nat → Int64)) (usedNow : (Nat → Int32)) (laidMany : (Nat → Int32)) (finding : Int32) (dir : (Nat → Int32)) (w : Int32) (v : Int32) : Met l yX0_set (ws_ yX0_set cX0_set 4 (some .int)) (rm_ 0 2 0 0) (va_Pc [.ref (a 0), .int w, .int v] (xPr G t A a cs K.L (Xx t a K many settings isVoted lotsNow seen keyOne keyTwo votes looked matched without trio takenStar takenAs takenSpot pairs starArms spotArms isTurn places byStar byFar one usedNow laidMany finding))) (va_Qi (fun rv (uv : (Nat → Int32) × Int32) => rv = (if setP w v then settings w.toNatClampNeg else -2) ∧ uv = ((if setP w v then upd settings w.toNatClampNeg v else settings), (if setP w v then 0 else isVoted))) (mB G (fun (uv : (Nat → Int32) × Int32) => Xx t a K many uv.1 uv.2 lotsNow seen keyOne keyTwo votes looked matched without trio takenStar takenAs takenSpot pairs starArms spotArms isTurn places byStar byFar one usedNow laidMany finding)) A) 0 0 A := by
  refine mkx_W (by decide) (Nat.le_of_ble_eq_true rfl) ?_
  intro p e s m below meth c ls hx hb hml hr hlk hts hown hnm hv hl
  obtain ⟨hP, hK, hD, hA, hE⟩ := hv
  have hS : va_S A s.heap s.heap [] := va_S.rf
  have hl : lv_has ls 4 [(0, .ref (a 0)), (1, .int w), (2, .int v)] := hl
  refine lv_iload_n hx hb dX0_set_0 rfl (lv_at hl 1 rfl) ?_
  refine lv_iload_n hx hb dX0_set_1 rfl (lv_at hl 2 rfl) ?_
  refine vp_callSi (W.runS (As := [.int w, .int v]) (rest := []) ⟨hx, hb, hml, hown, hts⟩ (mx_isSetting l w v) (va_cwS 2 hts (lw_S q239 q240 q80 q241) rfl rfl rfl cd_X0_isSetting.2 ⟨Nat.le_of_ble_eq_true rfl, Nat.le_of_ble_eq_true rfl⟩) ⟨pT_fb, fun U hU hW => ⟨rfl, trivial⟩⟩ rfl rfl hl.1 rfl (lv_room (Nat.le_of_ble_eq_true rfl)) dX0_set_2 ⟨Nat.le_of_ble_eq_true rfl, Nat.le_of_ble_eq_true rfl⟩) (fun r hr => ?_)
  subst hr
  refine rb_ne (tgt := 11) hx hb dX0_set_5 (by decide) (fun c_1 => ?_) (fun c_1 => ?_)
  · obtain ⟨j, hj, ej⟩ := setP_nat c_1
    have en : w.toNatClampNeg = j := by rw [ej]; exact tn_nI (by omega)
    refine lv_aload_n hx hb dX0_set_11 rfl (lv_at hl 0 rfl) ?_
    refine va_get (D := G) (ci := 0) (C := RX0) (T := TX0) (N := 32) hx hb hts in_X0 hown hK hP 0 xk_this rfl 5 (by decide) (hts _ q638) (fun _ h => h) rfl dX0_set_12 ?_
    refine lv_iload_n hx hb dX0_set_15 rfl (lv_at hl 1 rfl) ?_
    refine r_iald hx hb hK hP 9 0 xk_settings rfl (f := settings) j ej (by omega) (by decide) dX0_set_16 ?_
    refine lv_istore_n (lv' := [(3, .int (settings j)), (0, .ref (a 0)), (1, .int w), (2, .int v)]) hx hb dX0_set_17 rfl hl (by decide) rfl (fun ls hl => ?_)
    refine lv_aload_n hx hb dX0_set_18 rfl (lv_at hl 1 rfl) ?_
    refine va_get (D := G) (ci := 0) (C := RX0) (T := TX0) (N := 32) hx hb hts in_X0 hown hK hP 0 xk_this rfl 5 (by decide) (hts _ q638) (fun _ h => h) rfl dX0_set_19 ?_
    refine lv_iload_n hx hb dX0_set_22 rfl (lv_at hl 2 rfl) ?_
    refine lv_iload_n hx hb dX0_set_23 rfl (lv_at hl 3 rfl) ?_
    refine r_iast hx hb hK hP (xD hD) hS 9 0 xk_settings rfl j ej (by omega) (by decide) dX0_set_24 (ws' := Xx t a K many (upd settings j v) isVoted lotsNow seen keyOne keyTwo votes looked matched without trio takenStar takenAs takenSpot pairs starArms spotArms isTurn places byStar byFar one usedNow laidMany finding) (xs_settings _) (fun H locs hP hS => ?_)
    refine lv_aload_n hx hb dX0_set_25 rfl (lv_at hl 1 rfl) ?_
    refine lv_iconst (v := 0) hx hb dX0_set_26 (by decide) ?_
    refine va_put (D := G) (ci := 0) (v := .int 0) (ty := .boolean) (C := RX0) (T := TX0) (N := 32) hx hb hts in_X0 tyX0 tyX0_ok nmX0 hown hK hP (xD hD) hS 0 xk_this rfl 6 (by decide) (hts _ q639) (fun _ h => h) rfl (by decide +kernel) rfl rfl (Nat.le_of_ble_eq_true rfl) dX0_set_27 (fun H locs hP _ hS => ?_)
    have hP : va_P G vwCl (Xx t a K many (upd settings j v) 0 lotsNow seen keyOne keyTwo votes looked matched without trio takenStar takenAs takenSpot pairs starArms spotArms isTurn places byStar byFar one usedNow laidMany finding) H := by rw [xs_isVoted] at hP; exact hP
    refine lv_iload_n hx hb dX0_set_30 rfl (lv_at hl 0 rfl) ?_
    have hP : va_P G vwCl (Xx t a K many (if setP w v then upd settings w.toNatClampNeg v else settings) (if setP w v then 0 else isVoted) lotsNow seen keyOne keyTwo votes looked matched without trio takenStar takenAs takenSpot pairs starArms spotArms isTurn places byStar byFar one usedNow laidMany finding) H := by (simp only [if_pos c_1, en]; exact hP)
    exact W.iret (v := (settings j)) hx hb hr (fun tt ht _ => ⟨⟨_, ((if setP w v then upd settings w.toNatClampNeg v else settings), (if setP w v then 0 else isVoted)), rfl, ⟨(by rw [if_pos c_1, en]), rfl⟩, (show va_P G vwCl ((fun (uv : (Nat → Int32) × Int32) => Xx t a K many uv.1 uv.2 lotsNow seen keyOne keyTwo votes looked matched without trio takenStar takenAs takenSpot pairs starArms spotArms isTurn places byStar byFar one usedNow laidMany finding) ((if setP w v then upd settings w.toNatClampNeg v else settings), (if setP w v then 0 else isVoted))) tt.heap from by rw [ht]; exact hP)⟩, hS.F ht⟩) hS.2.2 dX0_set_31 hlk
  · refine lv_bipush (v := (-2)) hx hb dX0_set_8 (by decide) ?_
    have hP : va_P G vwCl (Xx t a K many (if setP w v then upd settings w.toNatClampNeg v else settings) (if setP w v then 0 else isVoted) lotsNow seen keyOne keyTwo votes looked matched without trio takenStar takenAs takenSpot pairs starArms spotArms isTurn places byStar byFar one usedNow laidMany finding) s.heap := by (simp only [if_neg c_1]; exact hP)
    exact W.iret (v := (-2)) hx hb hr (fun tt ht _ => ⟨⟨_, ((if setP w v then upd settings w.toNatClampNeg v else settings), (if setP w v then 0 else isVoted)), rfl, ⟨(by rw [if_neg c_1]), rfl⟩, (show va_P G vwCl ((fun (uv : (Nat → Int32) × Int32) => Xx t a K many uv.1 uv.2 lotsNow seen keyOne keyTwo votes looked matched without trio takenStar takenAs takenSpot pairs starArms spotArms isTurn places byStar byFar one usedNow laidMany finding) ((if setP w v then upd settings w.toNatClampNeg v else settings), (if setP w v then 0 else isVoted))) tt.heap from by rw [ht]; exact hP)⟩, hS.F ht⟩) hS.2.2 dX0_set_10 hlk

set_option maxHeartbeats 4000000 in
theorem mx_back (l : Launch) (G : va_G) (t : Nat → ClassId) (A : Nat → Prop) (a : Nat → Nat) (cs : Nat → ClassId) (K : XK) (many : (Nat → Int32)) (settings : (Nat → Int32)) (isVoted : Int32) (lotsNow : Int32) (seen : (Nat → Int32)) (keyOne : (Nat → Int32)) (keyTwo : (Nat → Int32)) (votes : (Nat → Int32)) (looked : Int32) (matched : Int32) (without : Int32) (trio : (Nat → Int32)) (takenStar : (Nat → Int32)) (takenAs : (Nat → Int32)) (takenSpot : (Nat → Int32)) (pairs : Int32) (starArms : (Nat → Int64)) (spotArms : (Nat → Int64)) (isTurn : Int32) (places : (Nat → Int32)) (byStar : (Nat → Int32)) (byFar : (Nat → Int32)) (one : (Nat → Int64)) (usedNow : (Nat → Int32)) (laidMany : (Nat → Int32)) (finding : Int32) (dir : (Nat → Int32)) (kind : Int32) (hM : Mok many) : Met l yX0_back (ws_ yX0_back cX0_back 2 (some .int)) (rm_ 0 2 0 0) (va_Pc [.ref (a 0), .int kind] (xPr G t A a cs K.L (Xx t a K many settings isVoted lotsNow seen keyOne keyTwo votes looked matched without trio takenStar takenAs takenSpot pairs starArms spotArms isTurn places byStar byFar one usedNow laidMany finding))) (va_Qi (fun rv (uv : (Nat → Int32) × Int32) => rv = (if rng kind 0 1 then (if many kind.toNatClampNeg = 0 then -3 else many kind.toNatClampNeg - 1) else -2) ∧ uv = ((if rng kind 0 1 then (if many kind.toNatClampNeg = 0 then many else upd many kind.toNatClampNeg (many kind.toNatClampNeg - 1)) else many), (if rng kind 0 1 then (if many kind.toNatClampNeg = 0 then isVoted else 0) else isVoted))) (mB G (fun (uv : (Nat → Int32) × Int32) => Xx t a K uv.1 settings uv.2 lotsNow seen keyOne keyTwo votes looked matched without trio takenStar takenAs takenSpot pairs starArms spotArms isTurn places byStar byFar one usedNow laidMany finding)) A) 0 0 A := by
  refine mkx_W (by decide) (Nat.le_of_ble_eq_true rfl) ?_
  intro p e s m below meth c ls hx hb hml hr hlk hts hown hnm hv hl
  obtain ⟨hP, hK, hD, hA, hE⟩ := hv
  have hS : va_S A s.heap s.heap [] := va_S.rf
  have hl : lv_has ls 2 [(0, .ref (a 0)), (1, .int kind)] := hl
  refine lv_iload_n hx hb dX0_back_0 rfl (lv_at hl 1 rfl) ?_
  refine vp_callSi (W.runS (As := [.int kind]) (rest := []) ⟨hx, hb, hml, hown, hts⟩ (mx_isTwo l kind) (va_cwS 1 hts (lw_S q105 q106 q80 q107) rfl rfl rfl cd_X0_isTwo.2 ⟨Nat.le_of_ble_eq_true rfl, Nat.le_of_ble_eq_true rfl⟩) ⟨pT_fb, fun U hU hW => ⟨rfl, trivial⟩⟩ rfl rfl hl.1 rfl (lv_room (Nat.le_of_ble_eq_true rfl)) dX0_back_1 ⟨Nat.le_of_ble_eq_true rfl, Nat.le_of_ble_eq_true rfl⟩) (fun r hr => ?_)
  subst hr
  refine rb_ne (tgt := 10) hx hb dX0_back_4 (by decide) (fun c_1 => ?_) (fun c_1 => ?_)
  · obtain ⟨k, hk, rfl⟩ := rng_ex (n := 1) c_1
    have ek : (nI k).toNatClampNeg = k := tn_nI (by omega)
    refine lv_aload_n hx hb dX0_back_10 rfl (lv_at hl 0 rfl) ?_
    refine va_get (D := G) (ci := 0) (C := RX0) (T := TX0) (N := 32) hx hb hts in_X0 hown hK hP 0 xk_this rfl 4 (by decide) (hts _ q637) (fun _ h => h) rfl dX0_back_11 ?_
    refine lv_iload_n hx hb dX0_back_14 rfl (lv_at hl 1 rfl) ?_
    refine r_iald hx hb hK hP 8 0 xk_many rfl (f := many) k rfl (by omega) (by decide) dX0_back_15 ?_
    refine lv_if_ne (tgt := 22) hx hb dX0_back_16 (by decide) (fun c_2 => ?_) (fun c_2 => ?_)
    · refine lv_aload_n hx hb dX0_back_22 rfl (lv_at hl 0 rfl) ?_
      refine va_get (D := G) (ci := 0) (C := RX0) (T := TX0) (N := 32) hx hb hts in_X0 hown hK hP 0 xk_this rfl 4 (by decide) (hts _ q637) (fun _ h => h) rfl dX0_back_23 ?_
      refine lv_iload_n hx hb dX0_back_26 rfl (lv_at hl 1 rfl) ?_
      refine lv_dup2_11 hx hb dX0_back_27 rfl rfl ?_
      refine r_iald hx hb hK hP 8 0 xk_many rfl (f := many) k rfl (by omega) (by decide) dX0_back_28 ?_
      refine lv_iconst (v := 1) hx hb dX0_back_29 (by decide) ?_
      refine lv_isub hx hb dX0_back_30 ?_
      refine r_iast hx hb hK hP (xD hD) hS 8 0 xk_many rfl k rfl (by omega) (by decide) dX0_back_31 (ws' := Xx t a K (upd many k ((many k) - 1)) settings isVoted lotsNow seen keyOne keyTwo votes looked matched without trio takenStar takenAs takenSpot pairs starArms spotArms isTurn places byStar byFar one usedNow laidMany finding) (xs_many _) (fun H locs hP hS => ?_)
      refine lv_aload_n hx hb dX0_back_32 rfl (lv_at hl 0 rfl) ?_
      refine lv_iconst (v := 0) hx hb dX0_back_33 (by decide) ?_
      refine va_put (D := G) (ci := 0) (v := .int 0) (ty := .boolean) (C := RX0) (T := TX0) (N := 32) hx hb hts in_X0 tyX0 tyX0_ok nmX0 hown hK hP (xD hD) hS 0 xk_this rfl 6 (by decide) (hts _ q639) (fun _ h => h) rfl (by decide +kernel) rfl rfl (Nat.le_of_ble_eq_true rfl) dX0_back_34 (fun H locs hP _ hS => ?_)
      have hP : va_P G vwCl (Xx t a K (upd many k ((many k) - 1)) settings 0 lotsNow seen keyOne keyTwo votes looked matched without trio takenStar takenAs takenSpot pairs starArms spotArms isTurn places byStar byFar one usedNow laidMany finding) H := by rw [xs_isVoted] at hP; exact hP
      refine lv_aload_n hx hb dX0_back_37 rfl (lv_at hl 0 rfl) ?_
      refine va_get (D := G) (ci := 0) (C := RX0) (T := TX0) (N := 32) hx hb hts in_X0 hown hK hP 0 xk_this rfl 4 (by decide) (hts _ q637) (fun _ h => h) rfl dX0_back_38 ?_
      refine lv_iload_n hx hb dX0_back_41 rfl (lv_at hl 1 rfl) ?_
      refine r_iald hx hb hK hP 8 0 xk_many rfl (f := (upd many k ((many k) - 1))) k rfl (by omega) (by decide) dX0_back_42 ?_
      have hP : va_P G vwCl (Xx t a K (if rng (nI k) 0 1 then (if many (nI k).toNatClampNeg = 0 then many else upd many (nI k).toNatClampNeg (many (nI k).toNatClampNeg - 1)) else many) settings (if rng (nI k) 0 1 then (if many (nI k).toNatClampNeg = 0 then isVoted else 0) else isVoted) lotsNow seen keyOne keyTwo votes looked matched without trio takenStar takenAs takenSpot pairs starArms spotArms isTurn places byStar byFar one usedNow laidMany finding) H := by (simp only [if_pos c_1, if_neg c_2, ek]; exact hP)
      exact W.iret (v := ((upd many k ((many k) - 1)) k)) hx hb hr (fun tt ht _ => ⟨⟨_, ((if rng (nI k) 0 1 then (if many (nI k).toNatClampNeg = 0 then many else upd many (nI k).toNatClampNeg (many (nI k).toNatClampNeg - 1)) else many), (if rng (nI k) 0 1 then (if many (nI k).toNatClampNeg = 0 then isVoted else 0) else isVoted)), rfl, ⟨(by simp only [if_pos c_1, if_neg c_2, ek]; try simp [upd]), rfl⟩, (show va_P G vwCl ((fun (uv : (Nat → Int32) × Int32) => Xx t a K uv.1 settings uv.2 lotsNow seen keyOne keyTwo votes looked matched without trio takenStar takenAs takenSpot pairs starArms spotArms isTurn places byStar byFar one usedNow laidMany finding) ((if rng (nI k) 0 1 then (if many (nI k).toNatClampNeg = 0 then many else upd many (nI k).toNatClampNeg (many (nI k).toNatClampNeg - 1)) else many), (if rng (nI k) 0 1 then (if many (nI k).toNatClampNeg = 0 then isVoted else 0) else isVoted))) tt.heap from by rw [ht]; exact hP)⟩, hS.F ht⟩) hS.2.2 dX0_back_43 hlk
    · refine lv_bipush (v := (-3)) hx hb dX0_back_19 (by decide) ?_
      have hP : va_P G vwCl (Xx t a K (if rng (nI k) 0 1 then (if many (nI k).toNatClampNeg = 0 then many else upd many (nI k).toNatClampNeg (many (nI k).toNatClampNeg - 1)) else many) settings (if rng (nI k) 0 1 then (if many (nI k).toNatClampNeg = 0 then isVoted else 0) else isVoted) lotsNow seen keyOne keyTwo votes looked matched without trio takenStar takenAs takenSpot pairs starArms spotArms isTurn places byStar byFar one usedNow laidMany finding) s.heap := by (simp only [if_pos c_1, if_pos c_2, ek]; exact hP)
      exact W.iret (v := (-3)) hx hb hr (fun tt ht _ => ⟨⟨_, ((if rng (nI k) 0 1 then (if many (nI k).toNatClampNeg = 0 then many else upd many (nI k).toNatClampNeg (many (nI k).toNatClampNeg - 1)) else many), (if rng (nI k) 0 1 then (if many (nI k).toNatClampNeg = 0 then isVoted else 0) else isVoted)), rfl, ⟨(by simp only [if_pos c_1, if_pos c_2, ek]), rfl⟩, (show va_P G vwCl ((fun (uv : (Nat → Int32) × Int32) => Xx t a K uv.1 settings uv.2 lotsNow seen keyOne keyTwo votes looked matched without trio takenStar takenAs takenSpot pairs starArms spotArms isTurn places byStar byFar one usedNow laidMany finding) ((if rng (nI k) 0 1 then (if many (nI k).toNatClampNeg = 0 then many else upd many (nI k).toNatClampNeg (many (nI k).toNatClampNeg - 1)) else many), (if rng (nI k) 0 1 then (if many (nI k).toNatClampNeg = 0 then isVoted else 0) else isVoted))) tt.heap from by rw [ht]; exact hP)⟩, hS.F ht⟩) hS.2.2 dX0_back_21 hlk
  · refine lv_bipush (v := (-2)) hx hb dX0_back_7 (by decide) ?_
    have hP : va_P G vwCl (Xx t a K (if rng kind 0 1 then (if many kind.toNatClampNeg = 0 then many else upd many kind.toNatClampNeg (many kind.toNatClampNeg - 1)) else many) settings (if rng kind 0 1 then (if many kind.toNatClampNeg = 0 then isVoted else 0) else isVoted) lotsNow seen keyOne keyTwo votes looked matched without trio takenStar takenAs takenSpot pairs starArms spotArms isTurn places byStar byFar one usedNow laidMany finding) s.heap := by (simp only [if_neg c_1]; exact hP)
    exact W.iret (v := (-2)) hx hb hr (fun tt ht _ => ⟨⟨_, ((if rng kind 0 1 then (if many kind.toNatClampNeg = 0 then many else upd many kind.toNatClampNeg (many kind.toNatClampNeg - 1)) else many), (if rng kind 0 1 then (if many kind.toNatClampNeg = 0 then isVoted else 0) else isVoted)), rfl, ⟨(by simp only [if_neg c_1]), rfl⟩, (show va_P G vwCl ((fun (uv : (Nat → Int32) × Int32) => Xx t a K uv.1 settings uv.2 lotsNow seen keyOne keyTwo votes looked matched without trio takenStar takenAs takenSpot pairs starArms spotArms isTurn places byStar byFar one usedNow laidMany finding) ((if rng kind 0 1 then (if many kind.toNatClampNeg = 0 then many else upd many kind.toNatClampNeg (many kind.toNatClampNeg - 1)) else many), (if rng kind 0 1 then (if many kind.toNatClampNeg = 0 then isVoted else 0) else isVoted))) tt.heap from by rw [ht]; exact hP)⟩, hS.F ht⟩) hS.2.2 dX0_back_9 hlk

set_option maxHeartbeats 4000000 in
theorem mx_at (l : Launch) (G : va_G) (t : Nat → ClassId) (A : Nat → Prop) (a : Nat → Nat) (cs : Nat → ClassId) (K : XK) (many : (Nat → Int32)) (settings : (Nat → Int32)) (isVoted : Int32) (lotsNow : Int32) (seen : (Nat → Int32)) (keyOne : (Nat → Int32)) (keyTwo : (Nat → Int32)) (votes : (Nat → Int32)) (looked : Int32) (matched : Int32) (without : Int32) (trio : (Nat → Int32)) (takenStar : (Nat → Int32)) (takenAs : (Nat → Int32)) (takenSpot : (Nat → Int32)) (pairs : Int32) (starArms : (Nat → Int64)) (spotArms : (Nat → Int64)) (isTurn : Int32) (places : (Nat → Int32)) (byStar : (Nat → Int32)) (byFar : (Nat → Int32)) (one : (Nat → Int64)) (usedNow : (Nat → Int32)) (laidMany : (Nat → Int32)) (finding : Int32) (dir : (Nat → Int32)) (kind : Int32) (i : Int32) (w : Int32) (hM : Mok many) (hB : BodOk K dir many) : Met l yX0_at (ws_ yX0_at cX0_at 4 (some .int)) (rm_ 0 3 0 0) (va_Pc [.ref (a 0), .int kind, .int i, .int w] (xPr G t A a cs K.L (Xx t a K many settings isVoted lotsNow seen keyOne keyTwo votes looked matched without trio takenStar takenAs takenSpot pairs starArms spotArms isTurn places byStar byFar one usedNow laidMany finding))) (vp_Si (fun rv => rv = atR many dir kind i w)) 0 0 (fun _ => False) := by
  refine mkx_W (by decide) (Nat.le_of_ble_eq_true rfl) ?_
  intro p e s m below meth c ls hx hb hml hr hlk hts hown hnm hv hl
  obtain ⟨hP, hK, hD, hA, hE⟩ := hv
  have hS : va_S A s.heap s.heap [] := va_S.rf
  have hl : lv_has ls 4 [(0, .ref (a 0)), (1, .int kind), (2, .int i), (3, .int w)] := hl
  refine lv_aload_n hx hb dX0_at_0 rfl (lv_at hl 0 rfl) ?_
  refine lv_iload_n hx hb dX0_at_1 rfl (lv_at hl 1 rfl) ?_
  refine lv_iload_n hx hb dX0_at_2 rfl (lv_at hl 2 rfl) ?_
  refine vp_callSi (W.runV (As := [.int kind, .int i]) (rest := []) ⟨hx, hb, hml, hown, hts⟩ (mx_isBody l G t A a cs K many settings isVoted lotsNow seen keyOne keyTwo votes looked matched without trio takenStar takenAs takenSpot pairs starArms spotArms isTurn places byStar byFar one usedNow laidMany finding dir kind i hM) (cwV 2 hts (lw_V q162 q164 qs2 q80 q165) rfl rfl rfl cd_X0_isBody ⟨Nat.le_of_ble_eq_true rfl, Nat.le_of_ble_eq_true rfl⟩) ⟨xPr_fb, x_recv hP hK, fun U hU hW => ⟨rfl, xPr_of hP hK hD hS hA hE hU hW⟩⟩ rfl rfl hl.1 rfl (lv_room (Nat.le_of_ble_eq_true rfl)) dX0_at_3 ⟨Nat.le_of_ble_eq_true rfl, Nat.le_of_ble_eq_true rfl⟩) (fun r hr => ?_)
  subst hr
  refine rb_eq (tgt := 31) hx hb dX0_at_6 (by decide) (fun c_1 => ?_) (fun c_1 => ?_)
  · refine lv_ldc (v := (-2147483648)) hx hb hown (hts _ q175) dX0_at_31 ?_
    exact W.iret (v := (-2147483648)) hx hb hr (fun tt ht _ => ⟨_, rfl, (by unfold atR; (first | rw [if_pos c_1] | rw [if_neg c_1]); skip; (try rfl)), ht⟩) (fun _ h => by cases h) dX0_at_33 hlk
  · obtain ⟨k, x, hk, hxk, hjm, hmk, rfl, rfl⟩ := thP_ex hM c_1
    have hmx := mx_le hk
    have ek : (nI k).toNatClampNeg = k := tn_nI (by omega)
    have ex : (nI x).toNatClampNeg = x := tn_nI (by omega)
    refine lv_iload_n hx hb dX0_at_9 rfl (lv_at hl 3 rfl) ?_
    refine vp_callSi (W.runS (As := [.int w]) (rest := []) ⟨hx, hb, hml, hown, hts⟩ (mx_isThree l w) (va_cwS 1 hts (lw_S q166 q167 q80 q168) rfl rfl rfl cd_X0_isThree.2 ⟨Nat.le_of_ble_eq_true rfl, Nat.le_of_ble_eq_true rfl⟩) ⟨pT_fb, fun U hU hW => ⟨rfl, trivial⟩⟩ rfl rfl hl.1 rfl (lv_room (Nat.le_of_ble_eq_true rfl)) dX0_at_10 ⟨Nat.le_of_ble_eq_true rfl, Nat.le_of_ble_eq_true rfl⟩) (fun r hr => ?_)
    subst hr
    refine rb_eq (tgt := 31) hx hb dX0_at_13 (by decide) (fun c_2 => ?_) (fun c_2 => ?_)
    · refine lv_ldc (v := (-2147483648)) hx hb hown (hts _ q175) dX0_at_31 ?_
      exact W.iret (v := (-2147483648)) hx hb hr (fun tt ht _ => ⟨_, rfl, (by unfold atR; (first | rw [if_pos c_1] | rw [if_neg c_1]); (first | rw [if_pos c_2] | rw [if_neg c_2]); (try simp only [ek, ex]); (try rfl)), ht⟩) (fun _ h => by cases h) dX0_at_33 hlk
    · obtain ⟨w1, hw1, rfl⟩ := rng_ex (n := 2) c_2
      have ew1 : (nI w1).toNatClampNeg = w1 := tn_nI (by omega)
      refine lv_aload_n hx hb dX0_at_16 rfl (lv_at hl 0 rfl) ?_
      refine va_get (D := G) (ci := 0) (C := RX0) (T := TX0) (N := 32) hx hb hts in_X0 hown hK hP 0 xk_this rfl 3 (by decide) (hts _ q636) (fun _ h => h) rfl dX0_at_17 ?_
      refine lv_iload_n hx hb dX0_at_20 rfl (lv_at hl 1 rfl) ?_
      refine xq_aald (r := .ref (a (6 + k))) hx hb hK hP 5 10 xk_bodies rfl rfl k rfl (by omega) (by decide) rfl dX0_at_21 ?_
      refine lv_iload_n hx hb dX0_at_22 rfl (lv_at hl 2 rfl) ?_
      obtain ⟨b_3, eb_3, mb_3, fb_3⟩ := hB k x (by omega) (by omega)
      refine xq_aald (r := .ref b_3) hx hb hK hP (6 + k) 5 (xr_bodies (by omega)) rfl rfl x rfl (lt_mx hM (by omega) (by omega)) (mx_1000 _) (by rw [eb_3]; rfl) dX0_at_23 ?_
      refine lv_iload_n hx hb dX0_at_24 rfl (lv_at hl 3 rfl) ?_
      refine xb_along (w := w1) hx hb hml hown hts hK (x_pool hP mb_3 fb_3) (by omega) rfl (by omega) hl.1 (Nat.le_of_ble_eq_true rfl) (Nat.le_of_ble_eq_true rfl) (Nat.le_of_ble_eq_true rfl) dX0_at_25 ?_
      refine lv_goto (tgt := 33) hx hb dX0_at_28 (by decide) ?_
      exact W.iret (v := (dir (36 * k + 3 * x + w1))) hx hb hr (fun tt ht _ => ⟨_, rfl, (by unfold atR; (first | rw [if_pos c_1] | rw [if_neg c_1]); (first | rw [if_pos c_2] | rw [if_neg c_2]); (try simp only [ek, ex, ew1]); (try rfl)), ht⟩) (fun _ h => by cases h) dX0_at_33 hlk

set_option maxHeartbeats 4000000 in
theorem mx_keyOf (l : Launch) (G : va_G) (t : Nat → ClassId) (A : Nat → Prop) (a : Nat → Nat) (cs : Nat → ClassId) (K : XK) (many : (Nat → Int32)) (settings : (Nat → Int32)) (isVoted : Int32) (lotsNow : Int32) (seen : (Nat → Int32)) (keyOne : (Nat → Int32)) (keyTwo : (Nat → Int32)) (votes : (Nat → Int32)) (looked : Int32) (matched : Int32) (without : Int32) (trio : (Nat → Int32)) (takenStar : (Nat → Int32)) (takenAs : (Nat → Int32)) (takenSpot : (Nat → Int32)) (pairs : Int32) (starArms : (Nat → Int64)) (spotArms : (Nat → Int64)) (isTurn : Int32) (places : (Nat → Int32)) (byStar : (Nat → Int32)) (byFar : (Nat → Int32)) (one : (Nat → Int64)) (usedNow : (Nat → Int32)) (laidMany : (Nat → Int32)) (finding : Int32) (dir : (Nat → Int32)) (k : Nat) (x : Nat) (y : Nat) (z : Nat) (w1 : Nat) (hM : Mok many) (hB : BodOk K dir many) (hk : k < 2) (h1 : x < nK many k) (h2 : y < nK many k) (h3 : z < nK many k) (hb0 : ¬ settings 0 = 0) (hw : w1 < 3) : Met l yX0_keyOf (ws_ yX0_keyOf cX0_keyOf 6 (some .int)) (rm_ 0 5 0 0) (va_Pc [.ref (a 0), .int (nI k), .int (nI x), .int (nI y), .int (nI z), .int (nI w1)] (xPr G t A a cs K.L (Xx t a K many settings isVoted lotsNow seen keyOne keyTwo votes looked matched without trio takenStar takenAs takenSpot pairs starArms spotArms isTurn places byStar byFar one usedNow laidMany finding))) (va_Qi (fun rv (uv : (Unit) × (Nat → Int32)) => rv = keyF dir (settings 0) (36 * k + 3 * x) (36 * k + 3 * y) (36 * k + 3 * z) (nI w1) ∧ uv.1 = ()) (mB G (fun (uv : (Unit) × (Nat → Int32)) => Xx t a K many settings isVoted lotsNow seen uv.2 keyTwo votes looked matched without trio takenStar takenAs takenSpot pairs starArms spotArms isTurn places byStar byFar one usedNow laidMany finding)) A) 0 0 A := by
  refine mkx_W (by decide) (Nat.le_of_ble_eq_true rfl) ?_
  intro p e s m below meth c ls hx hb hml hr hlk hts hown hnm hv hl
  obtain ⟨hP, hK, hD, hA, hE⟩ := hv
  have hS : va_S A s.heap s.heap [] := va_S.rf
  have hl : lv_has ls 6 [(0, .ref (a 0)), (1, .int (nI k)), (2, .int (nI x)), (3, .int (nI y)), (4, .int (nI z)), (5, .int (nI w1))] := hl
  refine lv_aload_n hx hb dX0_keyOf_0 rfl (lv_at hl 0 rfl) ?_
  refine lv_iload_n hx hb dX0_keyOf_1 rfl (lv_at hl 1 rfl) ?_
  refine lv_iload_n hx hb dX0_keyOf_2 rfl (lv_at hl 2 rfl) ?_
  refine lv_iload_n hx hb dX0_keyOf_3 rfl (lv_at hl 3 rfl) ?_
  refine lv_iload hx hb dX0_keyOf_4 (lv_at hl 4 rfl) ?_
  refine lv_aload_n hx hb dX0_keyOf_6 rfl (lv_at hl 0 rfl) ?_
  refine va_get (D := G) (ci := 0) (C := RX0) (T := TX0) (N := 32) hx hb hts in_X0 hown hK hP 0 xk_this rfl 9 (by decide) (hts _ q642) (fun _ h => h) rfl dX0_keyOf_7 ?_
  refine va_callv (va_runV (As := [.int (nI k), .int (nI x), .int (nI y), .int (nI z), .ref (a 11)]) (rest := []) ⟨hx, hb, hml, hown, hts⟩ (mx_findsKey_keyOne l G t A a cs K many settings isVoted lotsNow seen keyOne keyTwo votes looked matched without trio takenStar takenAs takenSpot pairs starArms spotArms isTurn places byStar byFar one usedNow laidMany finding dir k x y z hM hB (by omega) (by omega) (by omega) (by omega) hb0) (cwV 5 hts (lw_V q260 q262 qs8 q80 q263) rfl rfl rfl cd_X0_findsKey ⟨Nat.le_of_ble_eq_true rfl, Nat.le_of_ble_eq_true rfl⟩) ⟨xPr_fb, x_recv hP hK, fun U hU hW => ⟨rfl, xPr_of hP hK hD hS hA hE hU hW⟩⟩ rfl rfl hl.1 rfl (lv_room (Nat.le_of_ble_eq_true rfl)) dX0_keyOf_10 ⟨Nat.le_of_ble_eq_true rfl, Nat.le_of_ble_eq_true rfl⟩) hS (fun _ _ h => h) (fun _ h => h) (fun u tt H locs ht _ hq hP _ hkp hS => ?_)
  obtain rfl := hq
  have hP : va_P G vwCl (Xx t a K many settings isVoted lotsNow seen (keyW keyOne (keyF dir (settings 0) (36 * k + 3 * x) (36 * k + 3 * y) (36 * k + 3 * z) 0) (keyF dir (settings 0) (36 * k + 3 * x) (36 * k + 3 * y) (36 * k + 3 * z) 1) (keyF dir (settings 0) (36 * k + 3 * x) (36 * k + 3 * y) (36 * k + 3 * z) 2)) keyTwo votes looked matched without trio takenStar takenAs takenSpot pairs starArms spotArms isTurn places byStar byFar one usedNow laidMany finding) H := by rw [← ht]; exact hP
  refine lv_aload_n hx hb dX0_keyOf_13 rfl (lv_at hl 0 rfl) ?_
  refine va_get (D := G) (ci := 0) (C := RX0) (T := TX0) (N := 32) hx hb hts in_X0 hown hK hP 0 xk_this rfl 9 (by decide) (hts _ q642) (fun _ h => h) rfl dX0_keyOf_14 ?_
  refine lv_iload hx hb dX0_keyOf_17 (lv_at hl 5 rfl) ?_
  refine r_iald hx hb hK hP 11 0 xk_keyOne rfl (f := (keyW keyOne (keyF dir (settings 0) (36 * k + 3 * x) (36 * k + 3 * y) (36 * k + 3 * z) 0) (keyF dir (settings 0) (36 * k + 3 * x) (36 * k + 3 * y) (36 * k + 3 * z) 1) (keyF dir (settings 0) (36 * k + 3 * x) (36 * k + 3 * y) (36 * k + 3 * z) 2))) w1 rfl (by omega) (by decide) dX0_keyOf_19 ?_
  exact W.iret (v := ((keyW keyOne (keyF dir (settings 0) (36 * k + 3 * x) (36 * k + 3 * y) (36 * k + 3 * z) 0) (keyF dir (settings 0) (36 * k + 3 * x) (36 * k + 3 * y) (36 * k + 3 * z) 1) (keyF dir (settings 0) (36 * k + 3 * x) (36 * k + 3 * y) (36 * k + 3 * z) 2)) w1)) hx hb hr (fun tt ht _ => ⟨⟨_, ((), (keyW keyOne (keyF dir (settings 0) (36 * k + 3 * x) (36 * k + 3 * y) (36 * k + 3 * z) 0) (keyF dir (settings 0) (36 * k + 3 * x) (36 * k + 3 * y) (36 * k + 3 * z) 1) (keyF dir (settings 0) (36 * k + 3 * x) (36 * k + 3 * y) (36 * k + 3 * z) 2))), rfl, ⟨(keyW_at keyOne (fun q => keyF dir (settings 0) (36 * k + 3 * x) (36 * k + 3 * y) (36 * k + 3 * z) q) hw), rfl⟩, (show va_P G vwCl ((fun (uv : (Unit) × (Nat → Int32)) => Xx t a K many settings isVoted lotsNow seen uv.2 keyTwo votes looked matched without trio takenStar takenAs takenSpot pairs starArms spotArms isTurn places byStar byFar one usedNow laidMany finding) ((), (keyW keyOne (keyF dir (settings 0) (36 * k + 3 * x) (36 * k + 3 * y) (36 * k + 3 * z) 0) (keyF dir (settings 0) (36 * k + 3 * x) (36 * k + 3 * y) (36 * k + 3 * z) 1) (keyF dir (settings 0) (36 * k + 3 * x) (36 * k + 3 * y) (36 * k + 3 * z) 2)))) tt.heap from by rw [ht]; exact hP)⟩, hS.F ht⟩) hS.2.2 dX0_keyOf_20 hlk

set_option maxHeartbeats 4000000 in
theorem mx_key (l : Launch) (G : va_G) (t : Nat → ClassId) (A : Nat → Prop) (a : Nat → Nat) (cs : Nat → ClassId) (K : XK) (many : (Nat → Int32)) (settings : (Nat → Int32)) (isVoted : Int32) (lotsNow : Int32) (seen : (Nat → Int32)) (keyOne : (Nat → Int32)) (keyTwo : (Nat → Int32)) (votes : (Nat → Int32)) (looked : Int32) (matched : Int32) (without : Int32) (trio : (Nat → Int32)) (takenStar : (Nat → Int32)) (takenAs : (Nat → Int32)) (takenSpot : (Nat → Int32)) (pairs : Int32) (starArms : (Nat → Int64)) (spotArms : (Nat → Int64)) (isTurn : Int32) (places : (Nat → Int32)) (byStar : (Nat → Int32)) (byFar : (Nat → Int32)) (one : (Nat → Int64)) (usedNow : (Nat → Int32)) (laidMany : (Nat → Int32)) (finding : Int32) (dir : (Nat → Int32)) (kind : Int32) (i : Int32) (j : Int32) (h : Int32) (w : Int32) (hM : Mok many) (hB : BodOk K dir many) (hb0 : ¬ settings 0 = 0) : Met l yX0_key (ws_ yX0_key cX0_key 7 (some .int)) (rm_ 0 6 0 0) (va_Pc [.ref (a 0), .int kind, .int i, .int j, .int h, .int w] (xPr G t A a cs K.L (Xx t a K many settings isVoted lotsNow seen keyOne keyTwo votes looked matched without trio takenStar takenAs takenSpot pairs starArms spotArms isTurn places byStar byFar one usedNow laidMany finding))) (va_Qi (fun rv (uv : (Unit) × (Nat → Int32)) => rv = keyR many dir settings kind i j h w ∧ uv.1 = ()) (mB G (fun (uv : (Unit) × (Nat → Int32)) => Xx t a K many settings isVoted lotsNow seen uv.2 keyTwo votes looked matched without trio takenStar takenAs takenSpot pairs starArms spotArms isTurn places byStar byFar one usedNow laidMany finding)) A) 0 0 A := by
  refine mkx_W (by decide) (Nat.le_of_ble_eq_true rfl) ?_
  intro p e s m below meth c ls hx hb hml hr hlk hts hown hnm hv hl
  obtain ⟨hP, hK, hD, hA, hE⟩ := hv
  have hS : va_S A s.heap s.heap [] := va_S.rf
  have hl : lv_has ls 7 [(0, .ref (a 0)), (1, .int kind), (2, .int i), (3, .int j), (4, .int h), (5, .int w)] := hl
  refine lv_aload_n hx hb dX0_key_0 rfl (lv_at hl 0 rfl) ?_
  refine lv_iload_n hx hb dX0_key_1 rfl (lv_at hl 1 rfl) ?_
  refine lv_iload_n hx hb dX0_key_2 rfl (lv_at hl 2 rfl) ?_
  refine vp_callSi (W.runV (As := [.int kind, .int i]) (rest := []) ⟨hx, hb, hml, hown, hts⟩ (mx_isBody l G t A a cs K many settings isVoted lotsNow seen keyOne keyTwo votes looked matched without trio takenStar takenAs takenSpot pairs starArms spotArms isTurn places byStar byFar one usedNow laidMany finding dir kind i hM) (cwV 2 hts (lw_V q162 q164 qs2 q80 q165) rfl rfl rfl cd_X0_isBody ⟨Nat.le_of_ble_eq_true rfl, Nat.le_of_ble_eq_true rfl⟩) ⟨xPr_fb, x_recv hP hK, fun U hU hW => ⟨rfl, xPr_of hP hK hD hS hA hE hU hW⟩⟩ rfl rfl hl.1 rfl (lv_room (Nat.le_of_ble_eq_true rfl)) dX0_key_3 ⟨Nat.le_of_ble_eq_true rfl, Nat.le_of_ble_eq_true rfl⟩) (fun r hr => ?_)
  subst hr
  refine rb_eq (tgt := 32) hx hb dX0_key_6 (by decide) (fun c_1 => ?_) (fun c_1 => ?_)
  · refine lv_iconst (v := 0) hx hb dX0_key_32 (by decide) ?_
    refine lv_istore (lv' := [(6, .int 0), (0, .ref (a 0)), (1, .int kind), (2, .int i), (3, .int j), (4, .int h), (5, .int w)]) hx hb dX0_key_33 hl (by decide) rfl (fun ls hl => ?_)
    refine lv_iload hx hb dX0_key_35 (lv_at hl 0 rfl) ?_
    refine lv_if_eq (tgt := 79) hx hb dX0_key_37 (by decide) (fun c_2 => ?_) (fun c_2 => absurd c_2 (by decide))
    refine lv_bipush (v := (-2)) hx hb dX0_key_79 (by decide) ?_
    exact W.iret (v := (-2)) hx hb hr (fun tt ht _ => ⟨⟨_, ((), keyOne), rfl, ⟨(by unfold keyR; rw [if_neg (fun q => c_1 q.1)]), rfl⟩, (show va_P G vwCl ((fun (uv : (Unit) × (Nat → Int32)) => Xx t a K many settings isVoted lotsNow seen uv.2 keyTwo votes looked matched without trio takenStar takenAs takenSpot pairs starArms spotArms isTurn places byStar byFar one usedNow laidMany finding) ((), keyOne)) tt.heap from by rw [ht]; exact hP)⟩, hS.F ht⟩) hS.2.2 dX0_key_81 hlk
  · refine lv_aload_n hx hb dX0_key_9 rfl (lv_at hl 0 rfl) ?_
    refine lv_iload_n hx hb dX0_key_10 rfl (lv_at hl 1 rfl) ?_
    refine lv_iload_n hx hb dX0_key_11 rfl (lv_at hl 3 rfl) ?_
    refine vp_callSi (W.runV (As := [.int kind, .int j]) (rest := []) ⟨hx, hb, hml, hown, hts⟩ (mx_isBody l G t A a cs K many settings isVoted lotsNow seen keyOne keyTwo votes looked matched without trio takenStar takenAs takenSpot pairs starArms spotArms isTurn places byStar byFar one usedNow laidMany finding dir kind j hM) (cwV 2 hts (lw_V q162 q164 qs2 q80 q165) rfl rfl rfl cd_X0_isBody ⟨Nat.le_of_ble_eq_true rfl, Nat.le_of_ble_eq_true rfl⟩) ⟨xPr_fb, x_recv hP hK, fun U hU hW => ⟨rfl, xPr_of hP hK hD hS hA hE hU hW⟩⟩ rfl rfl hl.1 rfl (lv_room (Nat.le_of_ble_eq_true rfl)) dX0_key_12 ⟨Nat.le_of_ble_eq_true rfl, Nat.le_of_ble_eq_true rfl⟩) (fun r hr => ?_)
    subst hr
    refine rb_eq (tgt := 32) hx hb dX0_key_15 (by decide) (fun c_3 => ?_) (fun c_3 => ?_)
    · refine lv_iconst (v := 0) hx hb dX0_key_32 (by decide) ?_
      refine lv_istore (lv' := [(6, .int 0), (0, .ref (a 0)), (1, .int kind), (2, .int i), (3, .int j), (4, .int h), (5, .int w)]) hx hb dX0_key_33 hl (by decide) rfl (fun ls hl => ?_)
      refine lv_iload hx hb dX0_key_35 (lv_at hl 0 rfl) ?_
      refine lv_if_eq (tgt := 79) hx hb dX0_key_37 (by decide) (fun c_4 => ?_) (fun c_4 => absurd c_4 (by decide))
      refine lv_bipush (v := (-2)) hx hb dX0_key_79 (by decide) ?_
      exact W.iret (v := (-2)) hx hb hr (fun tt ht _ => ⟨⟨_, ((), keyOne), rfl, ⟨(by unfold keyR; rw [if_neg (fun q => c_3 q.2.1)]), rfl⟩, (show va_P G vwCl ((fun (uv : (Unit) × (Nat → Int32)) => Xx t a K many settings isVoted lotsNow seen uv.2 keyTwo votes looked matched without trio takenStar takenAs takenSpot pairs starArms spotArms isTurn places byStar byFar one usedNow laidMany finding) ((), keyOne)) tt.heap from by rw [ht]; exact hP)⟩, hS.F ht⟩) hS.2.2 dX0_key_81 hlk
    · refine lv_aload_n hx hb dX0_key_18 rfl (lv_at hl 0 rfl) ?_
      refine lv_iload_n hx hb dX0_key_19 rfl (lv_at hl 1 rfl) ?_
      refine lv_iload hx hb dX0_key_20 (lv_at hl 4 rfl) ?_
      refine vp_callSi (W.runV (As := [.int kind, .int h]) (rest := []) ⟨hx, hb, hml, hown, hts⟩ (mx_isBody l G t A a cs K many settings isVoted lotsNow seen keyOne keyTwo votes looked matched without trio takenStar takenAs takenSpot pairs starArms spotArms isTurn places byStar byFar one usedNow laidMany finding dir kind h hM) (cwV 2 hts (lw_V q162 q164 qs2 q80 q165) rfl rfl rfl cd_X0_isBody ⟨Nat.le_of_ble_eq_true rfl, Nat.le_of_ble_eq_true rfl⟩) ⟨xPr_fb, x_recv hP hK, fun U hU hW => ⟨rfl, xPr_of hP hK hD hS hA hE hU hW⟩⟩ rfl rfl hl.1 rfl (lv_room (Nat.le_of_ble_eq_true rfl)) dX0_key_22 ⟨Nat.le_of_ble_eq_true rfl, Nat.le_of_ble_eq_true rfl⟩) (fun r hr => ?_)
      subst hr
      refine rb_eq (tgt := 32) hx hb dX0_key_25 (by decide) (fun c_5 => ?_) (fun c_5 => ?_)
      · refine lv_iconst (v := 0) hx hb dX0_key_32 (by decide) ?_
        refine lv_istore (lv' := [(6, .int 0), (0, .ref (a 0)), (1, .int kind), (2, .int i), (3, .int j), (4, .int h), (5, .int w)]) hx hb dX0_key_33 hl (by decide) rfl (fun ls hl => ?_)
        refine lv_iload hx hb dX0_key_35 (lv_at hl 0 rfl) ?_
        refine lv_if_eq (tgt := 79) hx hb dX0_key_37 (by decide) (fun c_6 => ?_) (fun c_6 => absurd c_6 (by decide))
        refine lv_bipush (v := (-2)) hx hb dX0_key_79 (by decide) ?_
        exact W.iret (v := (-2)) hx hb hr (fun tt ht _ => ⟨⟨_, ((), keyOne), rfl, ⟨(by unfold keyR; rw [if_neg (fun q => c_5 q.2.2.1)]), rfl⟩, (show va_P G vwCl ((fun (uv : (Unit) × (Nat → Int32)) => Xx t a K many settings isVoted lotsNow seen uv.2 keyTwo votes looked matched without trio takenStar takenAs takenSpot pairs starArms spotArms isTurn places byStar byFar one usedNow laidMany finding) ((), keyOne)) tt.heap from by rw [ht]; exact hP)⟩, hS.F ht⟩) hS.2.2 dX0_key_81 hlk
      · refine lv_iconst (v := 1) hx hb dX0_key_28 (by decide) ?_
        refine lv_goto (tgt := 33) hx hb dX0_key_29 (by decide) ?_
        refine lv_istore (lv' := [(6, .int 1), (0, .ref (a 0)), (1, .int kind), (2, .int i), (3, .int j), (4, .int h), (5, .int w)]) hx hb dX0_key_33 hl (by decide) rfl (fun ls hl => ?_)
        refine lv_iload hx hb dX0_key_35 (lv_at hl 0 rfl) ?_
        refine lv_if_eq (tgt := 79) hx hb dX0_key_37 (by decide) (fun c_7 => absurd c_7 (by decide)) (fun c_7 => ?_)
        obtain ⟨k, x, hk, hxk, hjm, hmk, rfl, rfl⟩ := thP_ex hM c_1
        have hmx := mx_le hk
        obtain ⟨y, hyk, rfl⟩ := thP_ex2 hk c_3
        obtain ⟨z, hzk, rfl⟩ := thP_ex2 hk c_5
        refine lv_iload_n hx hb dX0_key_40 rfl (lv_at hl 3 rfl) ?_
        refine lv_iload_n hx hb dX0_key_41 rfl (lv_at hl 4 rfl) ?_
        refine rn_eq (tgt := 79) hx hb dX0_key_42 (by decide) rfl rfl (by omega) (by omega) (fun c_8 => ?_) (fun c_8 => ?_)
        · refine lv_bipush (v := (-2)) hx hb dX0_key_79 (by decide) ?_
          exact W.iret (v := (-2)) hx hb hr (fun tt ht _ => ⟨⟨_, ((), keyOne), rfl, ⟨(by unfold keyR; rw [if_neg (fun q => q.2.2.2.1 (by rw [c_8]))]), rfl⟩, (show va_P G vwCl ((fun (uv : (Unit) × (Nat → Int32)) => Xx t a K many settings isVoted lotsNow seen uv.2 keyTwo votes looked matched without trio takenStar takenAs takenSpot pairs starArms spotArms isTurn places byStar byFar one usedNow laidMany finding) ((), keyOne)) tt.heap from by rw [ht]; exact hP)⟩, hS.F ht⟩) hS.2.2 dX0_key_81 hlk
        · refine lv_iload_n hx hb dX0_key_45 rfl (lv_at hl 4 rfl) ?_
          refine lv_iload hx hb dX0_key_46 (lv_at hl 5 rfl) ?_
          refine rn_eq (tgt := 79) hx hb dX0_key_48 (by decide) rfl rfl (by omega) (by omega) (fun c_9 => ?_) (fun c_9 => ?_)
          · refine lv_bipush (v := (-2)) hx hb dX0_key_79 (by decide) ?_
            exact W.iret (v := (-2)) hx hb hr (fun tt ht _ => ⟨⟨_, ((), keyOne), rfl, ⟨(by unfold keyR; rw [if_neg (fun q => q.2.2.2.2.2 (by rw [c_9]))]), rfl⟩, (show va_P G vwCl ((fun (uv : (Unit) × (Nat → Int32)) => Xx t a K many settings isVoted lotsNow seen uv.2 keyTwo votes looked matched without trio takenStar takenAs takenSpot pairs starArms spotArms isTurn places byStar byFar one usedNow laidMany finding) ((), keyOne)) tt.heap from by rw [ht]; exact hP)⟩, hS.F ht⟩) hS.2.2 dX0_key_81 hlk
          · refine lv_iload_n hx hb dX0_key_51 rfl (lv_at hl 3 rfl) ?_
            refine lv_iload hx hb dX0_key_52 (lv_at hl 5 rfl) ?_
            refine rn_eq (tgt := 79) hx hb dX0_key_54 (by decide) rfl rfl (by omega) (by omega) (fun c_10 => ?_) (fun c_10 => ?_)
            · refine lv_bipush (v := (-2)) hx hb dX0_key_79 (by decide) ?_
              exact W.iret (v := (-2)) hx hb hr (fun tt ht _ => ⟨⟨_, ((), keyOne), rfl, ⟨(by unfold keyR; rw [if_neg (fun q => q.2.2.2.2.1 (by rw [c_10]))]), rfl⟩, (show va_P G vwCl ((fun (uv : (Unit) × (Nat → Int32)) => Xx t a K many settings isVoted lotsNow seen uv.2 keyTwo votes looked matched without trio takenStar takenAs takenSpot pairs starArms spotArms isTurn places byStar byFar one usedNow laidMany finding) ((), keyOne)) tt.heap from by rw [ht]; exact hP)⟩, hS.F ht⟩) hS.2.2 dX0_key_81 hlk
            · refine lv_iload hx hb dX0_key_57 (lv_at hl 6 rfl) ?_
              refine vp_callSi (W.runS (As := [.int w]) (rest := []) ⟨hx, hb, hml, hown, hts⟩ (mx_isThree l w) (va_cwS 1 hts (lw_S q166 q167 q80 q168) rfl rfl rfl cd_X0_isThree.2 ⟨Nat.le_of_ble_eq_true rfl, Nat.le_of_ble_eq_true rfl⟩) ⟨pT_fb, fun U hU hW => ⟨rfl, trivial⟩⟩ rfl rfl hl.1 rfl (lv_room (Nat.le_of_ble_eq_true rfl)) dX0_key_59 ⟨Nat.le_of_ble_eq_true rfl, Nat.le_of_ble_eq_true rfl⟩) (fun r hr => ?_)
              subst hr
              refine rb_eq (tgt := 79) hx hb dX0_key_62 (by decide) (fun c_11 => ?_) (fun c_11 => ?_)
              · refine lv_bipush (v := (-2)) hx hb dX0_key_79 (by decide) ?_
                exact W.iret (v := (-2)) hx hb hr (fun tt ht _ => ⟨⟨_, ((), keyOne), rfl, ⟨(by unfold keyR; split <;> first | rfl | rw [if_neg c_11]), rfl⟩, (show va_P G vwCl ((fun (uv : (Unit) × (Nat → Int32)) => Xx t a K many settings isVoted lotsNow seen uv.2 keyTwo votes looked matched without trio takenStar takenAs takenSpot pairs starArms spotArms isTurn places byStar byFar one usedNow laidMany finding) ((), keyOne)) tt.heap from by rw [ht]; exact hP)⟩, hS.F ht⟩) hS.2.2 dX0_key_81 hlk
              · obtain ⟨w1, hw1, rfl⟩ := rng_ex (n := 2) c_11
                refine lv_aload_n hx hb dX0_key_65 rfl (lv_at hl 1 rfl) ?_
                refine lv_iload_n hx hb dX0_key_66 rfl (lv_at hl 2 rfl) ?_
                refine lv_iload_n hx hb dX0_key_67 rfl (lv_at hl 3 rfl) ?_
                refine lv_iload_n hx hb dX0_key_68 rfl (lv_at hl 4 rfl) ?_
                refine lv_iload hx hb dX0_key_69 (lv_at hl 5 rfl) ?_
                refine lv_iload hx hb dX0_key_71 (lv_at hl 6 rfl) ?_
                refine va_calli (va_runV (As := [.int (nI k), .int (nI x), .int (nI y), .int (nI z), .int (nI w1)]) (rest := []) ⟨hx, hb, hml, hown, hts⟩ (mx_keyOf l G t A a cs K many settings isVoted lotsNow seen keyOne keyTwo votes looked matched without trio takenStar takenAs takenSpot pairs starArms spotArms isTurn places byStar byFar one usedNow laidMany finding dir k x y z w1 hM hB (by omega) (by omega) (by omega) (by omega) hb0 (by omega)) (cwV 5 hts (lw_V q256 q258 qs7 q80 q259) rfl rfl rfl cd_X0_keyOf ⟨Nat.le_of_ble_eq_true rfl, Nat.le_of_ble_eq_true rfl⟩) ⟨xPr_fb, x_recv hP hK, fun U hU hW => ⟨rfl, xPr_of hP hK hD hS hA hE hU hW⟩⟩ rfl rfl hl.1 rfl (lv_room (Nat.le_of_ble_eq_true rfl)) dX0_key_73 ⟨Nat.le_of_ble_eq_true rfl, Nat.le_of_ble_eq_true rfl⟩) hS (fun _ _ h => h) (fun _ h => h) (fun r u tt H locs ht _ hq hP _ hkp hS => ?_)
                obtain ⟨u_12, keyOne_u_12⟩ := u
                obtain ⟨rfl, rfl⟩ := hq
                have hP : va_P G vwCl (Xx t a K many settings isVoted lotsNow seen keyOne_u_12 keyTwo votes looked matched without trio takenStar takenAs takenSpot pairs starArms spotArms isTurn places byStar byFar one usedNow laidMany finding) H := by rw [← ht]; exact hP
                refine lv_goto (tgt := 81) hx hb dX0_key_76 (by decide) ?_
                exact W.iret (v := keyF dir (settings 0) (36 * k + 3 * x) (36 * k + 3 * y) (36 * k + 3 * z) (nI w1)) hx hb hr (fun tt ht _ => ⟨⟨_, ((), keyOne_u_12), rfl, ⟨(keyR_in hM hk hxk hyk hzk c_8 c_9 c_10 (by omega)).symm, rfl⟩, (show va_P G vwCl ((fun (uv : (Unit) × (Nat → Int32)) => Xx t a K many settings isVoted lotsNow seen uv.2 keyTwo votes looked matched without trio takenStar takenAs takenSpot pairs starArms spotArms isTurn places byStar byFar one usedNow laidMany finding) ((), keyOne_u_12)) tt.heap from by rw [ht]; exact hP)⟩, hS.F ht⟩) hS.2.2 dX0_key_81 hlk
