/-! the tracker: keys, votes -/
set_option maxHeartbeats 4000000 in
theorem mx_isBody (l : Launch) (G : va_G) (t : Nat → ClassId) (A : Nat → Prop) (a : Nat → Nat) (cs : Nat → ClassId) (K : XK) (many : (Nat → Int32)) (settings : (Nat → Int32)) (isVoted : Int32) (lotsNow : Int32) (seen : (Nat → Int32)) (keyOne : (Nat → Int32)) (keyTwo : (Nat → Int32)) (votes : (Nat → Int32)) (looked : Int32) (matched : Int32) (without : Int32) (trio : (Nat → Int32)) (takenStar : (Nat → Int32)) (takenAs : (Nat → Int32)) (takenSpot : (Nat → Int32)) (pairs : Int32) (starArms : (Nat → Int64)) (spotArms : (Nat → Int64)) (isTurn : Int32) (places : (Nat → Int32)) (byStar : (Nat → Int32)) (byFar : (Nat → Int32)) (one : (Nat → Int64)) (usedNow : (Nat → Int32)) (laidMany : (Nat → Int32)) (finding : Int32) (dir : (Nat → Int32)) (kind : Int32) (i : Int32) (hM : Mok many) : Met l yX0_isBody (ws_ yX0_isBody cX0_isBody 3 (some .boolean)) (rm_ 0 2 0 0) (va_Pc [.ref (a 0), .int kind, .int i] (xPr G t A a cs K.L (Xx t a K many settings isVoted lotsNow seen keyOne keyTwo votes looked matched without trio takenStar takenAs takenSpot pairs starArms spotArms isTurn places byStar byFar one usedNow laidMany finding))) (vp_Si (fun rv => rv = b2i (thP many kind i))) 0 0 (fun _ => False) := by
  refine mkx_W (by decide) (Nat.le_of_ble_eq_true rfl) ?_
  intro p e s m below meth c ls hx hb hml hr hlk hts hown hnm hv hl
  obtain ⟨hP, hK, hD, hA, hE⟩ := hv
  have hS : va_S A s.heap s.heap [] := va_S.rf
  have hl : lv_has ls 3 [(0, .ref (a 0)), (1, .int kind), (2, .int i)] := hl
  refine lv_iload_n hx hb dX0_isBody_0 rfl (lv_at hl 1 rfl) ?_
  refine vp_callSi (W.runS (As := [.int kind]) (rest := []) ⟨hx, hb, hml, hown, hts⟩ (mx_isTwo l kind) (va_cwS 1 hts (lw_S q105 q106 q80 q107) rfl rfl rfl cd_X0_isTwo.2 ⟨Nat.le_of_ble_eq_true rfl, Nat.le_of_ble_eq_true rfl⟩) ⟨pT_fb, fun U hU hW => ⟨rfl, trivial⟩⟩ rfl rfl hl.1 rfl (lv_room (Nat.le_of_ble_eq_true rfl)) dX0_isBody_1 ⟨Nat.le_of_ble_eq_true rfl, Nat.le_of_ble_eq_true rfl⟩) (fun r hr => ?_)
  subst hr
  refine rb_eq (tgt := 27) hx hb dX0_isBody_4 (by decide) (fun c_1 => ?_) (fun c_1 => ?_)
  · refine lv_iconst (v := 0) hx hb dX0_isBody_27 (by decide) ?_
    exact W.zret (v := 0) hx hb hr rfl (fun tt ht _ => ⟨_, rfl, (b2i_f (fun h => c_1 h.1)).symm, ht⟩) (fun _ h => by cases h) dX0_isBody_28 hlk
  · obtain ⟨k, hk, rfl⟩ := rng_ex (n := 1) c_1
    have ek : (nI k).toNatClampNeg = k := tn_nI (by omega)
    have hmkk := hM k (by omega)
    have hm2k := hmkk.2
    have hmxk := mx_le (k := k) (by omega)
    refine lv_iload_n hx hb dX0_isBody_7 rfl (lv_at hl 2 rfl) ?_
    refine lv_iconst (v := 0) hx hb dX0_isBody_8 (by decide) ?_
    refine lv_aload_n hx hb dX0_isBody_9 rfl (lv_at hl 0 rfl) ?_
    refine va_get (D := G) (ci := 0) (C := RX0) (T := TX0) (N := 32) hx hb hts in_X0 hown hK hP 0 xk_this rfl 4 (by decide) (hts _ q637) (fun _ h => h) rfl dX0_isBody_10 ?_
    refine lv_iload_n hx hb dX0_isBody_13 rfl (lv_at hl 1 rfl) ?_
    refine r_iald hx hb hK hP 8 0 xk_many rfl (f := many) k rfl (by omega) (by decide) dX0_isBody_14 ?_
    refine lv_iconst (v := 1) hx hb dX0_isBody_15 (by decide) ?_
    refine lv_isub hx hb dX0_isBody_16 ?_
    refine vp_callSi (W.runS (As := [.int i, .int 0, .int ((many k) - 1)]) (rest := []) ⟨hx, hb, hml, hown, hts⟩ (mx_in l i (0 : Int32) ((many k) - 1)) (va_cwS 3 hts (lw_S q108 q109 q80 q110) rfl rfl rfl cd_X0_in.2 ⟨Nat.le_of_ble_eq_true rfl, Nat.le_of_ble_eq_true rfl⟩) ⟨pT_fb, fun U hU hW => ⟨rfl, trivial⟩⟩ rfl rfl hl.1 rfl (lv_room (Nat.le_of_ble_eq_true rfl)) dX0_isBody_17 ⟨Nat.le_of_ble_eq_true rfl, Nat.le_of_ble_eq_true rfl⟩) (fun r hr => ?_)
    subst hr
    refine r_top (y := b2i (0 ≤ (i : Int32).toInt ∧ (i : Int32).toInt < (nK many k : Int))) (b2i_c (xin_lt (hM k (by omega)).1 (by omega))) ?_
    refine rb_eq (tgt := 27) hx hb dX0_isBody_20 (by decide) (fun c_2 => ?_) (fun c_2 => ?_)
    · refine lv_iconst (v := 0) hx hb dX0_isBody_27 (by decide) ?_
      exact W.zret (v := 0) hx hb hr rfl (fun tt ht _ => ⟨_, rfl, (by simp only [thP, ek]; exact (b2i_f (fun h => c_2 h.2)).symm), ht⟩) (fun _ h => by cases h) dX0_isBody_28 hlk
    · refine lv_iconst (v := 1) hx hb dX0_isBody_23 (by decide) ?_
      refine lv_goto (tgt := 28) hx hb dX0_isBody_24 (by decide) ?_
      exact W.zret (v := 1) hx hb hr rfl (fun tt ht _ => ⟨_, rfl, (by simp only [thP, ek]; exact (b2i_t ⟨c_1, c_2⟩).symm), ht⟩) (fun _ h => by cases h) dX0_isBody_28 hlk

set_option maxHeartbeats 4000000 in
theorem mx_side (l : Launch) (G : va_G) (t : Nat → ClassId) (A : Nat → Prop) (a : Nat → Nat) (cs : Nat → ClassId) (K : XK) (many : (Nat → Int32)) (settings : (Nat → Int32)) (isVoted : Int32) (lotsNow : Int32) (seen : (Nat → Int32)) (keyOne : (Nat → Int32)) (keyTwo : (Nat → Int32)) (votes : (Nat → Int32)) (looked : Int32) (matched : Int32) (without : Int32) (trio : (Nat → Int32)) (takenStar : (Nat → Int32)) (takenAs : (Nat → Int32)) (takenSpot : (Nat → Int32)) (pairs : Int32) (starArms : (Nat → Int64)) (spotArms : (Nat → Int64)) (isTurn : Int32) (places : (Nat → Int32)) (byStar : (Nat → Int32)) (byFar : (Nat → Int32)) (one : (Nat → Int64)) (usedNow : (Nat → Int32)) (laidMany : (Nat → Int32)) (finding : Int32) (dir : (Nat → Int32)) (kind : Int32) (i : Int32) (j : Int32) (hM : Mok many) (hB : BodOk K dir many) : Met l yX0_side (ws_ yX0_side cX0_side 4 (some .int)) (rm_ 0 3 0 0) (va_Pc [.ref (a 0), .int kind, .int i, .int j] (xPr G t A a cs K.L (Xx t a K many settings isVoted lotsNow seen keyOne keyTwo votes looked matched without trio takenStar takenAs takenSpot pairs starArms spotArms isTurn places byStar byFar one usedNow laidMany finding))) (vp_Si (fun rv => rv = sideR many dir kind i j)) 0 0 (fun _ => False) := by
  refine mkx_W (by decide) (Nat.le_of_ble_eq_true rfl) ?_
  intro p e s m below meth c ls hx hb hml hr hlk hts hown hnm hv hl
  obtain ⟨hP, hK, hD, hA, hE⟩ := hv
  have hS : va_S A s.heap s.heap [] := va_S.rf
  have hl : lv_has ls 4 [(0, .ref (a 0)), (1, .int kind), (2, .int i), (3, .int j)] := hl
  refine lv_aload_n hx hb dX0_side_0 rfl (lv_at hl 0 rfl) ?_
  refine lv_iload_n hx hb dX0_side_1 rfl (lv_at hl 1 rfl) ?_
  refine lv_iload_n hx hb dX0_side_2 rfl (lv_at hl 2 rfl) ?_
  refine vp_callSi (W.runV (As := [.int kind, .int i]) (rest := []) ⟨hx, hb, hml, hown, hts⟩ (mx_isBody l G t A a cs K many settings isVoted lotsNow seen keyOne keyTwo votes looked matched without trio takenStar takenAs takenSpot pairs starArms spotArms isTurn places byStar byFar one usedNow laidMany finding dir kind i hM) (cwV 2 hts (lw_V q162 q164 qs2 q80 q165) rfl rfl rfl cd_X0_isBody ⟨Nat.le_of_ble_eq_true rfl, Nat.le_of_ble_eq_true rfl⟩) ⟨xPr_fb, x_recv hP hK, fun U hU hW => ⟨rfl, xPr_of hP hK hD hS hA hE hU hW⟩⟩ rfl rfl hl.1 rfl (lv_room (Nat.le_of_ble_eq_true rfl)) dX0_side_3 ⟨Nat.le_of_ble_eq_true rfl, Nat.le_of_ble_eq_true rfl⟩) (fun r hr => ?_)
  subst hr
  refine rb_eq (tgt := 40) hx hb dX0_side_6 (by decide) (fun c_1 => ?_) (fun c_1 => ?_)
  · refine lv_bipush (v := (-2)) hx hb dX0_side_40 (by decide) ?_
    exact W.iret (v := (-2)) hx hb hr (fun tt ht _ => ⟨_, rfl, (by unfold sideR; (first | rw [if_pos c_1] | rw [if_neg c_1]); skip; (try rfl)), ht⟩) (fun _ h => by cases h) dX0_side_42 hlk
  · obtain ⟨k, x, hk, hxk, hjm, hmk, rfl, rfl⟩ := thP_ex hM c_1
    have hmx := mx_le hk
    have ek : (nI k).toNatClampNeg = k := tn_nI (by omega)
    have ex : (nI x).toNatClampNeg = x := tn_nI (by omega)
    refine lv_aload_n hx hb dX0_side_9 rfl (lv_at hl 0 rfl) ?_
    refine lv_iload_n hx hb dX0_side_10 rfl (lv_at hl 1 rfl) ?_
    refine lv_iload_n hx hb dX0_side_11 rfl (lv_at hl 3 rfl) ?_
    refine vp_callSi (W.runV (As := [.int (nI k), .int j]) (rest := []) ⟨hx, hb, hml, hown, hts⟩ (mx_isBody l G t A a cs K many settings isVoted lotsNow seen keyOne keyTwo votes looked matched without trio takenStar takenAs takenSpot pairs starArms spotArms isTurn places byStar byFar one usedNow laidMany finding dir (nI k) j hM) (cwV 2 hts (lw_V q162 q164 qs2 q80 q165) rfl rfl rfl cd_X0_isBody ⟨Nat.le_of_ble_eq_true rfl, Nat.le_of_ble_eq_true rfl⟩) ⟨xPr_fb, x_recv hP hK, fun U hU hW => ⟨rfl, xPr_of hP hK hD hS hA hE hU hW⟩⟩ rfl rfl hl.1 rfl (lv_room (Nat.le_of_ble_eq_true rfl)) dX0_side_12 ⟨Nat.le_of_ble_eq_true rfl, Nat.le_of_ble_eq_true rfl⟩) (fun r hr => ?_)
    subst hr
    refine rb_eq (tgt := 40) hx hb dX0_side_15 (by decide) (fun c_2 => ?_) (fun c_2 => ?_)
    · refine lv_bipush (v := (-2)) hx hb dX0_side_40 (by decide) ?_
      exact W.iret (v := (-2)) hx hb hr (fun tt ht _ => ⟨_, rfl, (by unfold sideR; (first | rw [if_pos c_1] | rw [if_neg c_1]); (first | rw [if_pos c_2] | rw [if_neg c_2]); (try simp only [ek, ex]); (try rfl)), ht⟩) (fun _ h => by cases h) dX0_side_42 hlk
    · obtain ⟨y, hyk, rfl⟩ := thP_ex2 hk c_2
      have ey : (nI y).toNatClampNeg = y := tn_nI (by omega)
      refine lv_aload_n hx hb dX0_side_18 rfl (lv_at hl 0 rfl) ?_
      refine va_get (D := G) (ci := 0) (C := RX0) (T := TX0) (N := 32) hx hb hts in_X0 hown hK hP 0 xk_this rfl 3 (by decide) (hts _ q636) (fun _ h => h) rfl dX0_side_19 ?_
      refine lv_iload_n hx hb dX0_side_22 rfl (lv_at hl 1 rfl) ?_
      refine xq_aald (r := .ref (a (6 + k))) hx hb hK hP 5 10 xk_bodies rfl rfl k rfl (by omega) (by decide) rfl dX0_side_23 ?_
      refine lv_iload_n hx hb dX0_side_24 rfl (lv_at hl 2 rfl) ?_
      obtain ⟨b_3, eb_3, mb_3, fb_3⟩ := hB k x (by omega) (by omega)
      refine xq_aald (r := .ref b_3) hx hb hK hP (6 + k) 5 (xr_bodies (by omega)) rfl rfl x rfl (lt_mx hM (by omega) (by omega)) (mx_1000 _) (by rw [eb_3]; rfl) dX0_side_25 ?_
      refine lv_aload_n hx hb dX0_side_26 rfl (lv_at hl 0 rfl) ?_
      refine va_get (D := G) (ci := 0) (C := RX0) (T := TX0) (N := 32) hx hb hts in_X0 hown hK hP 0 xk_this rfl 3 (by decide) (hts _ q636) (fun _ h => h) rfl dX0_side_27 ?_
      refine lv_iload_n hx hb dX0_side_30 rfl (lv_at hl 1 rfl) ?_
      refine xq_aald (r := .ref (a (6 + k))) hx hb hK hP 5 10 xk_bodies rfl rfl k rfl (by omega) (by decide) rfl dX0_side_31 ?_
      refine lv_iload_n hx hb dX0_side_32 rfl (lv_at hl 3 rfl) ?_
      obtain ⟨b_4, eb_4, mb_4, fb_4⟩ := hB k y (by omega) (by omega)
      refine xq_aald (r := .ref b_4) hx hb hK hP (6 + k) 5 (xr_bodies (by omega)) rfl rfl y rfl (lt_mx hM (by omega) (by omega)) (mx_1000 _) (by rw [eb_4]; rfl) dX0_side_33 ?_
      refine xb_side hx hb hml hown hts hK (x_pool hP mb_3 fb_3) (x_pool hP mb_4 fb_4) (by omega) hl.1 (Nat.le_of_ble_eq_true rfl) (Nat.le_of_ble_eq_true rfl) (Nat.le_of_ble_eq_true rfl) dX0_side_34 ?_
      refine lv_goto (tgt := 42) hx hb dX0_side_37 (by decide) ?_
      exact W.iret (v := (sideF dir (36 * k + 3 * x) (36 * k + 3 * y))) hx hb hr (fun tt ht _ => ⟨_, rfl, (by unfold sideR; (first | rw [if_pos c_1] | rw [if_neg c_1]); (first | rw [if_pos c_2] | rw [if_neg c_2]); (try simp only [ek, ex, ey]); (try rfl)), ht⟩) (fun _ h => by cases h) dX0_side_42 hlk

theorem mx_sideN (l : Launch) (G : va_G) (t : Nat → ClassId) (A : Nat → Prop) (a : Nat → Nat) (cs : Nat → ClassId) (K : XK) (many : (Nat → Int32)) (settings : (Nat → Int32)) (isVoted : Int32) (lotsNow : Int32) (seen : (Nat → Int32)) (keyOne : (Nat → Int32)) (keyTwo : (Nat → Int32)) (votes : (Nat → Int32)) (looked : Int32) (matched : Int32) (without : Int32) (trio : (Nat → Int32)) (takenStar : (Nat → Int32)) (takenAs : (Nat → Int32)) (takenSpot : (Nat → Int32)) (pairs : Int32) (starArms : (Nat → Int64)) (spotArms : (Nat → Int64)) (isTurn : Int32) (places : (Nat → Int32)) (byStar : (Nat → Int32)) (byFar : (Nat → Int32)) (one : (Nat → Int64)) (usedNow : (Nat → Int32)) (laidMany : (Nat → Int32)) (finding : Int32) (dir : (Nat → Int32)) (k : Nat) (i : Nat) (j : Nat) (hM : Mok many) (hB : BodOk K dir many) (hk : k < 2) (hi : i < nK many k) (hj : j < nK many k) : Met l yX0_side (ws_ yX0_side cX0_side 4 (some .int)) (rm_ 0 3 0 0) (va_Pc [.ref (a 0), .int (nI k), .int (nI i), .int (nI j)] (xPr G t A a cs K.L (Xx t a K many settings isVoted lotsNow seen keyOne keyTwo votes looked matched without trio takenStar takenAs takenSpot pairs starArms spotArms isTurn places byStar byFar one usedNow laidMany finding))) (vp_Si (fun rv => rv = sideF dir (36 * k + 3 * i) (36 * k + 3 * j))) 0 0 (fun _ => False) := by
  have h := mx_side l G t A a cs K many settings isVoted lotsNow seen keyOne keyTwo votes looked matched without trio takenStar takenAs takenSpot pairs starArms spotArms isTurn places byStar byFar one usedNow laidMany finding dir (nI k) (nI i) (nI j) hM hB
  rw [sideR_in hM hk hi hj] at h
  exact h

set_option maxHeartbeats 4000000 in
theorem mx_findsKey_keyOne (l : Launch) (G : va_G) (t : Nat → ClassId) (A : Nat → Prop) (a : Nat → Nat) (cs : Nat → ClassId) (K : XK) (many : (Nat → Int32)) (settings : (Nat → Int32)) (isVoted : Int32) (lotsNow : Int32) (seen : (Nat → Int32)) (keyOne : (Nat → Int32)) (keyTwo : (Nat → Int32)) (votes : (Nat → Int32)) (looked : Int32) (matched : Int32) (without : Int32) (trio : (Nat → Int32)) (takenStar : (Nat → Int32)) (takenAs : (Nat → Int32)) (takenSpot : (Nat → Int32)) (pairs : Int32) (starArms : (Nat → Int64)) (spotArms : (Nat → Int64)) (isTurn : Int32) (places : (Nat → Int32)) (byStar : (Nat → Int32)) (byFar : (Nat → Int32)) (one : (Nat → Int64)) (usedNow : (Nat → Int32)) (laidMany : (Nat → Int32)) (finding : Int32) (dir : (Nat → Int32)) (k : Nat) (x : Nat) (y : Nat) (z : Nat) (hM : Mok many) (hB : BodOk K dir many) (hk : k < 2) (h1 : x < nK many k) (h2 : y < nK many k) (h3 : z < nK many k) (hb0 : ¬ settings 0 = 0) : Met l yX0_findsKey (ws_ yX0_findsKey cX0_findsKey 11 (none)) (rm_ 0 4 0 0) (va_Pc [.ref (a 0), .int (nI k), .int (nI x), .int (nI y), .int (nI z), .ref (a 11)] (xPr G t A a cs K.L (Xx t a K many settings isVoted lotsNow seen keyOne keyTwo votes looked matched without trio takenStar takenAs takenSpot pairs starArms spotArms isTurn places byStar byFar one usedNow laidMany finding))) (va_Qv (fun (uv : (Nat → Int32)) => uv = keyW keyOne (keyF dir (settings 0) (36 * k + 3 * x) (36 * k + 3 * y) (36 * k + 3 * z) 0) (keyF dir (settings 0) (36 * k + 3 * x) (36 * k + 3 * y) (36 * k + 3 * z) 1) (keyF dir (settings 0) (36 * k + 3 * x) (36 * k + 3 * y) (36 * k + 3 * z) 2)) (mB G (fun (uv : (Nat → Int32)) => Xx t a K many settings isVoted lotsNow seen uv keyTwo votes looked matched without trio takenStar takenAs takenSpot pairs starArms spotArms isTurn places byStar byFar one usedNow laidMany finding)) A) 0 0 A := by
  refine mkx_W (by decide) (Nat.le_of_ble_eq_true rfl) ?_
  intro p e s m below meth c ls hx hb hml hr hlk hts hown hnm hv hl
  obtain ⟨hP, hK, hD, hA, hE⟩ := hv
  have hS : va_S A s.heap s.heap [] := va_S.rf
  have hl : lv_has ls 11 [(0, .ref (a 0)), (1, .int (nI k)), (2, .int (nI x)), (3, .int (nI y)), (4, .int (nI z)), (5, .ref (a 11))] := hl
  refine lv_aload_n hx hb dX0_findsKey_0 rfl (lv_at hl 0 rfl) ?_
  refine lv_iload_n hx hb dX0_findsKey_1 rfl (lv_at hl 1 rfl) ?_
  refine lv_iload_n hx hb dX0_findsKey_2 rfl (lv_at hl 2 rfl) ?_
  refine lv_iload_n hx hb dX0_findsKey_3 rfl (lv_at hl 3 rfl) ?_
  refine vp_callSi (W.runV (As := [.int (nI k), .int (nI x), .int (nI y)]) (rest := []) ⟨hx, hb, hml, hown, hts⟩ (mx_sideN l G t A a cs K many settings isVoted lotsNow seen keyOne keyTwo votes looked matched without trio takenStar takenAs takenSpot pairs starArms spotArms isTurn places byStar byFar one usedNow laidMany finding dir k x y hM hB (by omega) (by omega) (by omega)) (cwV 3 hts (lw_V q264 q243 q244 q80 q245) rfl rfl rfl cd_X0_side ⟨Nat.le_of_ble_eq_true rfl, Nat.le_of_ble_eq_true rfl⟩) ⟨xPr_fb, x_recv hP hK, fun U hU hW => ⟨rfl, xPr_of hP hK hD hS hA hE hU hW⟩⟩ rfl rfl hl.1 rfl (lv_room (Nat.le_of_ble_eq_true rfl)) dX0_findsKey_4 ⟨Nat.le_of_ble_eq_true rfl, Nat.le_of_ble_eq_true rfl⟩) (fun r hr => ?_)
  subst hr
  refine lv_istore (lv' := [(6, .int (sideF dir (36 * k + 3 * x) (36 * k + 3 * y))), (0, .ref (a 0)), (1, .int (nI k)), (2, .int (nI x)), (3, .int (nI y)), (4, .int (nI z)), (5, .ref (a 11))]) hx hb dX0_findsKey_7 hl (by decide) rfl (fun ls hl => ?_)
  refine lv_aload_n hx hb dX0_findsKey_9 rfl (lv_at hl 1 rfl) ?_
  refine lv_iload_n hx hb dX0_findsKey_10 rfl (lv_at hl 2 rfl) ?_
  refine lv_iload_n hx hb dX0_findsKey_11 rfl (lv_at hl 4 rfl) ?_
  refine lv_iload hx hb dX0_findsKey_12 (lv_at hl 5 rfl) ?_
  refine vp_callSi (W.runV (As := [.int (nI k), .int (nI y), .int (nI z)]) (rest := []) ⟨hx, hb, hml, hown, hts⟩ (mx_sideN l G t A a cs K many settings isVoted lotsNow seen keyOne keyTwo votes looked matched without trio takenStar takenAs takenSpot pairs starArms spotArms isTurn places byStar byFar one usedNow laidMany finding dir k y z hM hB (by omega) (by omega) (by omega)) (cwV 3 hts (lw_V q264 q243 q244 q80 q245) rfl rfl rfl cd_X0_side ⟨Nat.le_of_ble_eq_true rfl, Nat.le_of_ble_eq_true rfl⟩) ⟨xPr_fb, x_recv hP hK, fun U hU hW => ⟨rfl, xPr_of hP hK hD hS hA hE hU hW⟩⟩ rfl rfl hl.1 rfl (lv_room (Nat.le_of_ble_eq_true rfl)) dX0_findsKey_14 ⟨Nat.le_of_ble_eq_true rfl, Nat.le_of_ble_eq_true rfl⟩) (fun r hr => ?_)
  subst hr
  refine lv_istore (lv' := [(7, .int (sideF dir (36 * k + 3 * y) (36 * k + 3 * z))), (6, .int (sideF dir (36 * k + 3 * x) (36 * k + 3 * y))), (0, .ref (a 0)), (1, .int (nI k)), (2, .int (nI x)), (3, .int (nI y)), (4, .int (nI z)), (5, .ref (a 11))]) hx hb dX0_findsKey_17 hl (by decide) rfl (fun ls hl => ?_)
  refine lv_aload_n hx hb dX0_findsKey_19 rfl (lv_at hl 2 rfl) ?_
  refine lv_iload_n hx hb dX0_findsKey_20 rfl (lv_at hl 3 rfl) ?_
  refine lv_iload_n hx hb dX0_findsKey_21 rfl (lv_at hl 4 rfl) ?_
  refine lv_iload hx hb dX0_findsKey_22 (lv_at hl 6 rfl) ?_
  refine vp_callSi (W.runV (As := [.int (nI k), .int (nI x), .int (nI z)]) (rest := []) ⟨hx, hb, hml, hown, hts⟩ (mx_sideN l G t A a cs K many settings isVoted lotsNow seen keyOne keyTwo votes looked matched without trio takenStar takenAs takenSpot pairs starArms spotArms isTurn places byStar byFar one usedNow laidMany finding dir k x z hM hB (by omega) (by omega) (by omega)) (cwV 3 hts (lw_V q264 q243 q244 q80 q245) rfl rfl rfl cd_X0_side ⟨Nat.le_of_ble_eq_true rfl, Nat.le_of_ble_eq_true rfl⟩) ⟨xPr_fb, x_recv hP hK, fun U hU hW => ⟨rfl, xPr_of hP hK hD hS hA hE hU hW⟩⟩ rfl rfl hl.1 rfl (lv_room (Nat.le_of_ble_eq_true rfl)) dX0_findsKey_24 ⟨Nat.le_of_ble_eq_true rfl, Nat.le_of_ble_eq_true rfl⟩) (fun r hr => ?_)
  subst hr
  refine lv_istore (lv' := [(8, .int (sideF dir (36 * k + 3 * x) (36 * k + 3 * z))), (7, .int (sideF dir (36 * k + 3 * y) (36 * k + 3 * z))), (6, .int (sideF dir (36 * k + 3 * x) (36 * k + 3 * y))), (0, .ref (a 0)), (1, .int (nI k)), (2, .int (nI x)), (3, .int (nI y)), (4, .int (nI z)), (5, .ref (a 11))]) hx hb dX0_findsKey_27 hl (by decide) rfl (fun ls hl => ?_)
  refine lv_iload hx hb dX0_findsKey_29 (lv_at hl 2 rfl) ?_
  refine lv_iload hx hb dX0_findsKey_31 (lv_at hl 1 rfl) ?_
  refine lv_iload hx hb dX0_findsKey_33 (lv_at hl 0 rfl) ?_
  refine vp_callSi (W.runS (As := [.int (sideF dir (36 * k + 3 * y) (36 * k + 3 * z)), .int (sideF dir (36 * k + 3 * x) (36 * k + 3 * z))]) (rest := [.int (sideF dir (36 * k + 3 * x) (36 * k + 3 * y))]) ⟨hx, hb, hml, hown, hts⟩ (mx_min l (sideF dir (36 * k + 3 * y) (36 * k + 3 * z)) (sideF dir (36 * k + 3 * x) (36 * k + 3 * z))) (va_cwS 2 hts (lw_S q208 q209 q87 q210) rfl rfl rfl cd_J0_min.2 ⟨Nat.le_of_ble_eq_true rfl, Nat.le_of_ble_eq_true rfl⟩) ⟨pT_fb, fun U hU hW => ⟨rfl, trivial⟩⟩ rfl rfl hl.1 rfl (lv_room (Nat.le_of_ble_eq_true rfl)) dX0_findsKey_35 ⟨Nat.le_of_ble_eq_true rfl, Nat.le_of_ble_eq_true rfl⟩) (fun r hr => ?_)
  subst hr
  refine vp_callSi (W.runS (As := [.int (sideF dir (36 * k + 3 * x) (36 * k + 3 * y)), .int (minX (sideF dir (36 * k + 3 * y) (36 * k + 3 * z)) (sideF dir (36 * k + 3 * x) (36 * k + 3 * z)))]) (rest := []) ⟨hx, hb, hml, hown, hts⟩ (mx_min l (sideF dir (36 * k + 3 * x) (36 * k + 3 * y)) (minX (sideF dir (36 * k + 3 * y) (36 * k + 3 * z)) (sideF dir (36 * k + 3 * x) (36 * k + 3 * z)))) (va_cwS 2 hts (lw_S q208 q209 q87 q210) rfl rfl rfl cd_J0_min.2 ⟨Nat.le_of_ble_eq_true rfl, Nat.le_of_ble_eq_true rfl⟩) ⟨pT_fb, fun U hU hW => ⟨rfl, trivial⟩⟩ rfl rfl hl.1 rfl (lv_room (Nat.le_of_ble_eq_true rfl)) dX0_findsKey_38 ⟨Nat.le_of_ble_eq_true rfl, Nat.le_of_ble_eq_true rfl⟩) (fun r hr => ?_)
  subst hr
  refine lv_istore (lv' := [(9, .int (minX (sideF dir (36 * k + 3 * x) (36 * k + 3 * y)) (minX (sideF dir (36 * k + 3 * y) (36 * k + 3 * z)) (sideF dir (36 * k + 3 * x) (36 * k + 3 * z))))), (8, .int (sideF dir (36 * k + 3 * x) (36 * k + 3 * z))), (7, .int (sideF dir (36 * k + 3 * y) (36 * k + 3 * z))), (6, .int (sideF dir (36 * k + 3 * x) (36 * k + 3 * y))), (0, .ref (a 0)), (1, .int (nI k)), (2, .int (nI x)), (3, .int (nI y)), (4, .int (nI z)), (5, .ref (a 11))]) hx hb dX0_findsKey_41 hl (by decide) rfl (fun ls hl => ?_)
  refine lv_iload hx hb dX0_findsKey_43 (lv_at hl 3 rfl) ?_
  refine lv_iload hx hb dX0_findsKey_45 (lv_at hl 2 rfl) ?_
  refine lv_iload hx hb dX0_findsKey_47 (lv_at hl 1 rfl) ?_
  refine vp_callSi (W.runS (As := [.int (sideF dir (36 * k + 3 * y) (36 * k + 3 * z)), .int (sideF dir (36 * k + 3 * x) (36 * k + 3 * z))]) (rest := [.int (sideF dir (36 * k + 3 * x) (36 * k + 3 * y))]) ⟨hx, hb, hml, hown, hts⟩ (mx_max l (sideF dir (36 * k + 3 * y) (36 * k + 3 * z)) (sideF dir (36 * k + 3 * x) (36 * k + 3 * z))) (va_cwS 2 hts (lw_S q231 q232 q87 q233) rfl rfl rfl cd_J0_max.2 ⟨Nat.le_of_ble_eq_true rfl, Nat.le_of_ble_eq_true rfl⟩) ⟨pT_fb, fun U hU hW => ⟨rfl, trivial⟩⟩ rfl rfl hl.1 rfl (lv_room (Nat.le_of_ble_eq_true rfl)) dX0_findsKey_49 ⟨Nat.le_of_ble_eq_true rfl, Nat.le_of_ble_eq_true rfl⟩) (fun r hr => ?_)
  subst hr
  refine vp_callSi (W.runS (As := [.int (sideF dir (36 * k + 3 * x) (36 * k + 3 * y)), .int (maxX (sideF dir (36 * k + 3 * y) (36 * k + 3 * z)) (sideF dir (36 * k + 3 * x) (36 * k + 3 * z)))]) (rest := []) ⟨hx, hb, hml, hown, hts⟩ (mx_max l (sideF dir (36 * k + 3 * x) (36 * k + 3 * y)) (maxX (sideF dir (36 * k + 3 * y) (36 * k + 3 * z)) (sideF dir (36 * k + 3 * x) (36 * k + 3 * z)))) (va_cwS 2 hts (lw_S q231 q232 q87 q233) rfl rfl rfl cd_J0_max.2 ⟨Nat.le_of_ble_eq_true rfl, Nat.le_of_ble_eq_true rfl⟩) ⟨pT_fb, fun U hU hW => ⟨rfl, trivial⟩⟩ rfl rfl hl.1 rfl (lv_room (Nat.le_of_ble_eq_true rfl)) dX0_findsKey_52 ⟨Nat.le_of_ble_eq_true rfl, Nat.le_of_ble_eq_true rfl⟩) (fun r hr => ?_)
  subst hr
  refine lv_istore (lv' := [(10, .int (maxX (sideF dir (36 * k + 3 * x) (36 * k + 3 * y)) (maxX (sideF dir (36 * k + 3 * y) (36 * k + 3 * z)) (sideF dir (36 * k + 3 * x) (36 * k + 3 * z))))), (9, .int (minX (sideF dir (36 * k + 3 * x) (36 * k + 3 * y)) (minX (sideF dir (36 * k + 3 * y) (36 * k + 3 * z)) (sideF dir (36 * k + 3 * x) (36 * k + 3 * z))))), (8, .int (sideF dir (36 * k + 3 * x) (36 * k + 3 * z))), (7, .int (sideF dir (36 * k + 3 * y) (36 * k + 3 * z))), (6, .int (sideF dir (36 * k + 3 * x) (36 * k + 3 * y))), (0, .ref (a 0)), (1, .int (nI k)), (2, .int (nI x)), (3, .int (nI y)), (4, .int (nI z)), (5, .ref (a 11))]) hx hb dX0_findsKey_55 hl (by decide) rfl (fun ls hl => ?_)
  refine lv_aload hx hb dX0_findsKey_57 (lv_at hl 10 rfl) ?_
  refine lv_iconst (v := 0) hx hb dX0_findsKey_59 (by decide) ?_
  refine lv_iload hx hb dX0_findsKey_60 (lv_at hl 1 rfl) ?_
  refine lv_aload_n hx hb dX0_findsKey_62 rfl (lv_at hl 5 rfl) ?_
  refine va_get (D := G) (ci := 0) (C := RX0) (T := TX0) (N := 32) hx hb hts in_X0 hown hK hP 0 xk_this rfl 5 (by decide) (hts _ q638) (fun _ h => h) rfl dX0_findsKey_63 ?_
  refine lv_iconst (v := 0) hx hb dX0_findsKey_66 (by decide) ?_
  refine r_iald hx hb hK hP 9 0 xk_settings rfl (f := settings) 0 (nI_q 0) (by decide) (by decide) dX0_findsKey_67 ?_
  refine lv_idiv hx hb dX0_findsKey_68 hb0 ?_
  refine r_top (y := (keyF dir (settings 0) (36 * k + 3 * x) (36 * k + 3 * y) (36 * k + 3 * z) 0)) (kx_0 ..) ?_
  refine r_iast hx hb hK hP (xD hD) hS 11 0 xk_keyOne rfl 0 (nI_q 0) (by decide) (by decide) dX0_findsKey_69 (ws' := Xx t a K many settings isVoted lotsNow seen (upd keyOne 0 (keyF dir (settings 0) (36 * k + 3 * x) (36 * k + 3 * y) (36 * k + 3 * z) 0)) keyTwo votes looked matched without trio takenStar takenAs takenSpot pairs starArms spotArms isTurn places byStar byFar one usedNow laidMany finding) (xs_keyOne _) (fun H locs hP hS => ?_)
  refine lv_aload hx hb dX0_findsKey_70 (lv_at hl 10 rfl) ?_
  refine lv_iconst (v := 1) hx hb dX0_findsKey_72 (by decide) ?_
  refine lv_iload hx hb dX0_findsKey_73 (lv_at hl 4 rfl) ?_
  refine lv_iload hx hb dX0_findsKey_75 (lv_at hl 3 rfl) ?_
  refine lv_iadd hx hb dX0_findsKey_77 ?_
  refine lv_iload hx hb dX0_findsKey_78 (lv_at hl 2 rfl) ?_
  refine lv_iadd hx hb dX0_findsKey_80 ?_
  refine lv_iload hx hb dX0_findsKey_81 (lv_at hl 1 rfl) ?_
  refine lv_isub hx hb dX0_findsKey_83 ?_
  refine lv_iload hx hb dX0_findsKey_84 (lv_at hl 0 rfl) ?_
  refine lv_isub hx hb dX0_findsKey_86 ?_
  refine lv_aload_n hx hb dX0_findsKey_87 rfl (lv_at hl 5 rfl) ?_
  refine va_get (D := G) (ci := 0) (C := RX0) (T := TX0) (N := 32) hx hb hts in_X0 hown hK hP 0 xk_this rfl 5 (by decide) (hts _ q638) (fun _ h => h) rfl dX0_findsKey_88 ?_
  refine lv_iconst (v := 0) hx hb dX0_findsKey_91 (by decide) ?_
  refine r_iald hx hb hK hP 9 0 xk_settings rfl (f := settings) 0 (nI_q 0) (by decide) (by decide) dX0_findsKey_92 ?_
  refine lv_idiv hx hb dX0_findsKey_93 hb0 ?_
  refine r_top (y := (keyF dir (settings 0) (36 * k + 3 * x) (36 * k + 3 * y) (36 * k + 3 * z) 1)) (kx_1 ..) ?_
  refine r_iast hx hb hK hP (xD hD) hS 11 0 xk_keyOne rfl 1 (nI_q 1) (by decide) (by decide) dX0_findsKey_94 (ws' := Xx t a K many settings isVoted lotsNow seen (upd (upd keyOne 0 (keyF dir (settings 0) (36 * k + 3 * x) (36 * k + 3 * y) (36 * k + 3 * z) 0)) 1 (keyF dir (settings 0) (36 * k + 3 * x) (36 * k + 3 * y) (36 * k + 3 * z) 1)) keyTwo votes looked matched without trio takenStar takenAs takenSpot pairs starArms spotArms isTurn places byStar byFar one usedNow laidMany finding) (xs_keyOne _) (fun H locs hP hS => ?_)
  refine lv_aload hx hb dX0_findsKey_95 (lv_at hl 10 rfl) ?_
  refine lv_iconst (v := 2) hx hb dX0_findsKey_97 (by decide) ?_
  refine lv_iload hx hb dX0_findsKey_98 (lv_at hl 0 rfl) ?_
  refine lv_aload_n hx hb dX0_findsKey_100 rfl (lv_at hl 5 rfl) ?_
  refine va_get (D := G) (ci := 0) (C := RX0) (T := TX0) (N := 32) hx hb hts in_X0 hown hK hP 0 xk_this rfl 5 (by decide) (hts _ q638) (fun _ h => h) rfl dX0_findsKey_101 ?_
  refine lv_iconst (v := 0) hx hb dX0_findsKey_104 (by decide) ?_
  refine r_iald hx hb hK hP 9 0 xk_settings rfl (f := settings) 0 (nI_q 0) (by decide) (by decide) dX0_findsKey_105 ?_
  refine lv_idiv hx hb dX0_findsKey_106 hb0 ?_
  refine r_top (y := (keyF dir (settings 0) (36 * k + 3 * x) (36 * k + 3 * y) (36 * k + 3 * z) 2)) (kx_2 ..) ?_
  refine r_iast hx hb hK hP (xD hD) hS 11 0 xk_keyOne rfl 2 (nI_q 2) (by decide) (by decide) dX0_findsKey_107 (ws' := Xx t a K many settings isVoted lotsNow seen (upd (upd (upd keyOne 0 (keyF dir (settings 0) (36 * k + 3 * x) (36 * k + 3 * y) (36 * k + 3 * z) 0)) 1 (keyF dir (settings 0) (36 * k + 3 * x) (36 * k + 3 * y) (36 * k + 3 * z) 1)) 2 (keyF dir (settings 0) (36 * k + 3 * x) (36 * k + 3 * y) (36 * k + 3 * z) 2)) keyTwo votes looked matched without trio takenStar takenAs takenSpot pairs starArms spotArms isTurn places byStar byFar one usedNow laidMany finding) (xs_keyOne _) (fun H locs hP hS => ?_)
  exact W.vret hx hb hr (fun tt ht _ => ⟨⟨(keyW keyOne (keyF dir (settings 0) (36 * k + 3 * x) (36 * k + 3 * y) (36 * k + 3 * z) 0) (keyF dir (settings 0) (36 * k + 3 * x) (36 * k + 3 * y) (36 * k + 3 * z) 1) (keyF dir (settings 0) (36 * k + 3 * x) (36 * k + 3 * y) (36 * k + 3 * z) 2)), rfl, rfl, (show va_P G vwCl ((fun (uv : (Nat → Int32)) => Xx t a K many settings isVoted lotsNow seen uv keyTwo votes looked matched without trio takenStar takenAs takenSpot pairs starArms spotArms isTurn places byStar byFar one usedNow laidMany finding) (keyW keyOne (keyF dir (settings 0) (36 * k + 3 * x) (36 * k + 3 * y) (36 * k + 3 * z) 0) (keyF dir (settings 0) (36 * k + 3 * x) (36 * k + 3 * y) (36 * k + 3 * z) 1) (keyF dir (settings 0) (36 * k + 3 * x) (36 * k + 3 * y) (36 * k + 3 * z) 2))) tt.heap from by rw [ht]; exact hP)⟩, hS.F ht⟩) hS.2.2 dX0_findsKey_108 hlk

set_option maxHeartbeats 4000000 in
theorem mx_findsKey_keyTwo (l : Launch) (G : va_G) (t : Nat → ClassId) (A : Nat → Prop) (a : Nat → Nat) (cs : Nat → ClassId) (K : XK) (many : (Nat → Int32)) (settings : (Nat → Int32)) (isVoted : Int32) (lotsNow : Int32) (seen : (Nat → Int32)) (keyOne : (Nat → Int32)) (keyTwo : (Nat → Int32)) (votes : (Nat → Int32)) (looked : Int32) (matched : Int32) (without : Int32) (trio : (Nat → Int32)) (takenStar : (Nat → Int32)) (takenAs : (Nat → Int32)) (takenSpot : (Nat → Int32)) (pairs : Int32) (starArms : (Nat → Int64)) (spotArms : (Nat → Int64)) (isTurn : Int32) (places : (Nat → Int32)) (byStar : (Nat → Int32)) (byFar : (Nat → Int32)) (one : (Nat → Int64)) (usedNow : (Nat → Int32)) (laidMany : (Nat → Int32)) (finding : Int32) (dir : (Nat → Int32)) (k : Nat) (x : Nat) (y : Nat) (z : Nat) (hM : Mok many) (hB : BodOk K dir many) (hk : k < 2) (h1 : x < nK many k) (h2 : y < nK many k) (h3 : z < nK many k) (hb0 : ¬ settings 0 = 0) : Met l yX0_findsKey (ws_ yX0_findsKey cX0_findsKey 11 (none)) (rm_ 0 4 0 0) (va_Pc [.ref (a 0), .int (nI k), .int (nI x), .int (nI y), .int (nI z), .ref (a 12)] (xPr G t A a cs K.L (Xx t a K many settings isVoted lotsNow seen keyOne keyTwo votes looked matched without trio takenStar takenAs takenSpot pairs starArms spotArms isTurn places byStar byFar one usedNow laidMany finding))) (va_Qv (fun (uv : (Nat → Int32)) => uv = keyW keyTwo (keyF dir (settings 0) (36 * k + 3 * x) (36 * k + 3 * y) (36 * k + 3 * z) 0) (keyF dir (settings 0) (36 * k + 3 * x) (36 * k + 3 * y) (36 * k + 3 * z) 1) (keyF dir (settings 0) (36 * k + 3 * x) (36 * k + 3 * y) (36 * k + 3 * z) 2)) (mB G (fun (uv : (Nat → Int32)) => Xx t a K many settings isVoted lotsNow seen keyOne uv votes looked matched without trio takenStar takenAs takenSpot pairs starArms spotArms isTurn places byStar byFar one usedNow laidMany finding)) A) 0 0 A := by
  refine mkx_W (by decide) (Nat.le_of_ble_eq_true rfl) ?_
  intro p e s m below meth c ls hx hb hml hr hlk hts hown hnm hv hl
  obtain ⟨hP, hK, hD, hA, hE⟩ := hv
  have hS : va_S A s.heap s.heap [] := va_S.rf
  have hl : lv_has ls 11 [(0, .ref (a 0)), (1, .int (nI k)), (2, .int (nI x)), (3, .int (nI y)), (4, .int (nI z)), (5, .ref (a 12))] := hl
  refine lv_aload_n hx hb dX0_findsKey_0 rfl (lv_at hl 0 rfl) ?_
  refine lv_iload_n hx hb dX0_findsKey_1 rfl (lv_at hl 1 rfl) ?_
  refine lv_iload_n hx hb dX0_findsKey_2 rfl (lv_at hl 2 rfl) ?_
  refine lv_iload_n hx hb dX0_findsKey_3 rfl (lv_at hl 3 rfl) ?_
  refine vp_callSi (W.runV (As := [.int (nI k), .int (nI x), .int (nI y)]) (rest := []) ⟨hx, hb, hml, hown, hts⟩ (mx_sideN l G t A a cs K many settings isVoted lotsNow seen keyOne keyTwo votes looked matched without trio takenStar takenAs takenSpot pairs starArms spotArms isTurn places byStar byFar one usedNow laidMany finding dir k x y hM hB (by omega) (by omega) (by omega)) (cwV 3 hts (lw_V q264 q243 q244 q80 q245) rfl rfl rfl cd_X0_side ⟨Nat.le_of_ble_eq_true rfl, Nat.le_of_ble_eq_true rfl⟩) ⟨xPr_fb, x_recv hP hK, fun U hU hW => ⟨rfl, xPr_of hP hK hD hS hA hE hU hW⟩⟩ rfl rfl hl.1 rfl (lv_room (Nat.le_of_ble_eq_true rfl)) dX0_findsKey_4 ⟨Nat.le_of_ble_eq_true rfl, Nat.le_of_ble_eq_true rfl⟩) (fun r hr => ?_)
  subst hr
  refine lv_istore (lv' := [(6, .int (sideF dir (36 * k + 3 * x) (36 * k + 3 * y))), (0, .ref (a 0)), (1, .int (nI k)), (2, .int (nI x)), (3, .int (nI y)), (4, .int (nI z)), (5, .ref (a 12))]) hx hb dX0_findsKey_7 hl (by decide) rfl (fun ls hl => ?_)
  refine lv_aload_n hx hb dX0_findsKey_9 rfl (lv_at hl 1 rfl) ?_
  refine lv_iload_n hx hb dX0_findsKey_10 rfl (lv_at hl 2 rfl) ?_
  refine lv_iload_n hx hb dX0_findsKey_11 rfl (lv_at hl 4 rfl) ?_
  refine lv_iload hx hb dX0_findsKey_12 (lv_at hl 5 rfl) ?_
  refine vp_callSi (W.runV (As := [.int (nI k), .int (nI y), .int (nI z)]) (rest := []) ⟨hx, hb, hml, hown, hts⟩ (mx_sideN l G t A a cs K many settings isVoted lotsNow seen keyOne keyTwo votes looked matched without trio takenStar takenAs takenSpot pairs starArms spotArms isTurn places byStar byFar one usedNow laidMany finding dir k y z hM hB (by omega) (by omega) (by omega)) (cwV 3 hts (lw_V q264 q243 q244 q80 q245) rfl rfl rfl cd_X0_side ⟨Nat.le_of_ble_eq_true rfl, Nat.le_of_ble_eq_true rfl⟩) ⟨xPr_fb, x_recv hP hK, fun U hU hW => ⟨rfl, xPr_of hP hK hD hS hA hE hU hW⟩⟩ rfl rfl hl.1 rfl (lv_room (Nat.le_of_ble_eq_true rfl)) dX0_findsKey_14 ⟨Nat.le_of_ble_eq_true rfl, Nat.le_of_ble_eq_true rfl⟩) (fun r hr => ?_)
  subst hr
  refine lv_istore (lv' := [(7, .int (sideF dir (36 * k + 3 * y) (36 * k + 3 * z))), (6, .int (sideF dir (36 * k + 3 * x) (36 * k + 3 * y))), (0, .ref (a 0)), (1, .int (nI k)), (2, .int (nI x)), (3, .int (nI y)), (4, .int (nI z)), (5, .ref (a 12))]) hx hb dX0_findsKey_17 hl (by decide) rfl (fun ls hl => ?_)
  refine lv_aload_n hx hb dX0_findsKey_19 rfl (lv_at hl 2 rfl) ?_
  refine lv_iload_n hx hb dX0_findsKey_20 rfl (lv_at hl 3 rfl) ?_
  refine lv_iload_n hx hb dX0_findsKey_21 rfl (lv_at hl 4 rfl) ?_
  refine lv_iload hx hb dX0_findsKey_22 (lv_at hl 6 rfl) ?_
  refine vp_callSi (W.runV (As := [.int (nI k), .int (nI x), .int (nI z)]) (rest := []) ⟨hx, hb, hml, hown, hts⟩ (mx_sideN l G t A a cs K many settings isVoted lotsNow seen keyOne keyTwo votes looked matched without trio takenStar takenAs takenSpot pairs starArms spotArms isTurn places byStar byFar one usedNow laidMany finding dir k x z hM hB (by omega) (by omega) (by omega)) (cwV 3 hts (lw_V q264 q243 q244 q80 q245) rfl rfl rfl cd_X0_side ⟨Nat.le_of_ble_eq_true rfl, Nat.le_of_ble_eq_true rfl⟩) ⟨xPr_fb, x_recv hP hK, fun U hU hW => ⟨rfl, xPr_of hP hK hD hS hA hE hU hW⟩⟩ rfl rfl hl.1 rfl (lv_room (Nat.le_of_ble_eq_true rfl)) dX0_findsKey_24 ⟨Nat.le_of_ble_eq_true rfl, Nat.le_of_ble_eq_true rfl⟩) (fun r hr => ?_)
  subst hr
  refine lv_istore (lv' := [(8, .int (sideF dir (36 * k + 3 * x) (36 * k + 3 * z))), (7, .int (sideF dir (36 * k + 3 * y) (36 * k + 3 * z))), (6, .int (sideF dir (36 * k + 3 * x) (36 * k + 3 * y))), (0, .ref (a 0)), (1, .int (nI k)), (2, .int (nI x)), (3, .int (nI y)), (4, .int (nI z)), (5, .ref (a 12))]) hx hb dX0_findsKey_27 hl (by decide) rfl (fun ls hl => ?_)
  refine lv_iload hx hb dX0_findsKey_29 (lv_at hl 2 rfl) ?_
  refine lv_iload hx hb dX0_findsKey_31 (lv_at hl 1 rfl) ?_
  refine lv_iload hx hb dX0_findsKey_33 (lv_at hl 0 rfl) ?_
  refine vp_callSi (W.runS (As := [.int (sideF dir (36 * k + 3 * y) (36 * k + 3 * z)), .int (sideF dir (36 * k + 3 * x) (36 * k + 3 * z))]) (rest := [.int (sideF dir (36 * k + 3 * x) (36 * k + 3 * y))]) ⟨hx, hb, hml, hown, hts⟩ (mx_min l (sideF dir (36 * k + 3 * y) (36 * k + 3 * z)) (sideF dir (36 * k + 3 * x) (36 * k + 3 * z))) (va_cwS 2 hts (lw_S q208 q209 q87 q210) rfl rfl rfl cd_J0_min.2 ⟨Nat.le_of_ble_eq_true rfl, Nat.le_of_ble_eq_true rfl⟩) ⟨pT_fb, fun U hU hW => ⟨rfl, trivial⟩⟩ rfl rfl hl.1 rfl (lv_room (Nat.le_of_ble_eq_true rfl)) dX0_findsKey_35 ⟨Nat.le_of_ble_eq_true rfl, Nat.le_of_ble_eq_true rfl⟩) (fun r hr => ?_)
  subst hr
  refine vp_callSi (W.runS (As := [.int (sideF dir (36 * k + 3 * x) (36 * k + 3 * y)), .int (minX (sideF dir (36 * k + 3 * y) (36 * k + 3 * z)) (sideF dir (36 * k + 3 * x) (36 * k + 3 * z)))]) (rest := []) ⟨hx, hb, hml, hown, hts⟩ (mx_min l (sideF dir (36 * k + 3 * x) (36 * k + 3 * y)) (minX (sideF dir (36 * k + 3 * y) (36 * k + 3 * z)) (sideF dir (36 * k + 3 * x) (36 * k + 3 * z)))) (va_cwS 2 hts (lw_S q208 q209 q87 q210) rfl rfl rfl cd_J0_min.2 ⟨Nat.le_of_ble_eq_true rfl, Nat.le_of_ble_eq_true rfl⟩) ⟨pT_fb, fun U hU hW => ⟨rfl, trivial⟩⟩ rfl rfl hl.1 rfl (lv_room (Nat.le_of_ble_eq_true rfl)) dX0_findsKey_38 ⟨Nat.le_of_ble_eq_true rfl, Nat.le_of_ble_eq_true rfl⟩) (fun r hr => ?_)
  subst hr
  refine lv_istore (lv' := [(9, .int (minX (sideF dir (36 * k + 3 * x) (36 * k + 3 * y)) (minX (sideF dir (36 * k + 3 * y) (36 * k + 3 * z)) (sideF dir (36 * k + 3 * x) (36 * k + 3 * z))))), (8, .int (sideF dir (36 * k + 3 * x) (36 * k + 3 * z))), (7, .int (sideF dir (36 * k + 3 * y) (36 * k + 3 * z))), (6, .int (sideF dir (36 * k + 3 * x) (36 * k + 3 * y))), (0, .ref (a 0)), (1, .int (nI k)), (2, .int (nI x)), (3, .int (nI y)), (4, .int (nI z)), (5, .ref (a 12))]) hx hb dX0_findsKey_41 hl (by decide) rfl (fun ls hl => ?_)
  refine lv_iload hx hb dX0_findsKey_43 (lv_at hl 3 rfl) ?_
  refine lv_iload hx hb dX0_findsKey_45 (lv_at hl 2 rfl) ?_
  refine lv_iload hx hb dX0_findsKey_47 (lv_at hl 1 rfl) ?_
  refine vp_callSi (W.runS (As := [.int (sideF dir (36 * k + 3 * y) (36 * k + 3 * z)), .int (sideF dir (36 * k + 3 * x) (36 * k + 3 * z))]) (rest := [.int (sideF dir (36 * k + 3 * x) (36 * k + 3 * y))]) ⟨hx, hb, hml, hown, hts⟩ (mx_max l (sideF dir (36 * k + 3 * y) (36 * k + 3 * z)) (sideF dir (36 * k + 3 * x) (36 * k + 3 * z))) (va_cwS 2 hts (lw_S q231 q232 q87 q233) rfl rfl rfl cd_J0_max.2 ⟨Nat.le_of_ble_eq_true rfl, Nat.le_of_ble_eq_true rfl⟩) ⟨pT_fb, fun U hU hW => ⟨rfl, trivial⟩⟩ rfl rfl hl.1 rfl (lv_room (Nat.le_of_ble_eq_true rfl)) dX0_findsKey_49 ⟨Nat.le_of_ble_eq_true rfl, Nat.le_of_ble_eq_true rfl⟩) (fun r hr => ?_)
  subst hr
  refine vp_callSi (W.runS (As := [.int (sideF dir (36 * k + 3 * x) (36 * k + 3 * y)), .int (maxX (sideF dir (36 * k + 3 * y) (36 * k + 3 * z)) (sideF dir (36 * k + 3 * x) (36 * k + 3 * z)))]) (rest := []) ⟨hx, hb, hml, hown, hts⟩ (mx_max l (sideF dir (36 * k + 3 * x) (36 * k + 3 * y)) (maxX (sideF dir (36 * k + 3 * y) (36 * k + 3 * z)) (sideF dir (36 * k + 3 * x) (36 * k + 3 * z)))) (va_cwS 2 hts (lw_S q231 q232 q87 q233) rfl rfl rfl cd_J0_max.2 ⟨Nat.le_of_ble_eq_true rfl, Nat.le_of_ble_eq_true rfl⟩) ⟨pT_fb, fun U hU hW => ⟨rfl, trivial⟩⟩ rfl rfl hl.1 rfl (lv_room (Nat.le_of_ble_eq_true rfl)) dX0_findsKey_52 ⟨Nat.le_of_ble_eq_true rfl, Nat.le_of_ble_eq_true rfl⟩) (fun r hr => ?_)
  subst hr
  refine lv_istore (lv' := [(10, .int (maxX (sideF dir (36 * k + 3 * x) (36 * k + 3 * y)) (maxX (sideF dir (36 * k + 3 * y) (36 * k + 3 * z)) (sideF dir (36 * k + 3 * x) (36 * k + 3 * z))))), (9, .int (minX (sideF dir (36 * k + 3 * x) (36 * k + 3 * y)) (minX (sideF dir (36 * k + 3 * y) (36 * k + 3 * z)) (sideF dir (36 * k + 3 * x) (36 * k + 3 * z))))), (8, .int (sideF dir (36 * k + 3 * x) (36 * k + 3 * z))), (7, .int (sideF dir (36 * k + 3 * y) (36 * k + 3 * z))), (6, .int (sideF dir (36 * k + 3 * x) (36 * k + 3 * y))), (0, .ref (a 0)), (1, .int (nI k)), (2, .int (nI x)), (3, .int (nI y)), (4, .int (nI z)), (5, .ref (a 12))]) hx hb dX0_findsKey_55 hl (by decide) rfl (fun ls hl => ?_)
  refine lv_aload hx hb dX0_findsKey_57 (lv_at hl 10 rfl) ?_
  refine lv_iconst (v := 0) hx hb dX0_findsKey_59 (by decide) ?_
  refine lv_iload hx hb dX0_findsKey_60 (lv_at hl 1 rfl) ?_
  refine lv_aload_n hx hb dX0_findsKey_62 rfl (lv_at hl 5 rfl) ?_
  refine va_get (D := G) (ci := 0) (C := RX0) (T := TX0) (N := 32) hx hb hts in_X0 hown hK hP 0 xk_this rfl 5 (by decide) (hts _ q638) (fun _ h => h) rfl dX0_findsKey_63 ?_
  refine lv_iconst (v := 0) hx hb dX0_findsKey_66 (by decide) ?_
  refine r_iald hx hb hK hP 9 0 xk_settings rfl (f := settings) 0 (nI_q 0) (by decide) (by decide) dX0_findsKey_67 ?_
  refine lv_idiv hx hb dX0_findsKey_68 hb0 ?_
  refine r_top (y := (keyF dir (settings 0) (36 * k + 3 * x) (36 * k + 3 * y) (36 * k + 3 * z) 0)) (kx_0 ..) ?_
  refine r_iast hx hb hK hP (xD hD) hS 12 0 xk_keyTwo rfl 0 (nI_q 0) (by decide) (by decide) dX0_findsKey_69 (ws' := Xx t a K many settings isVoted lotsNow seen keyOne (upd keyTwo 0 (keyF dir (settings 0) (36 * k + 3 * x) (36 * k + 3 * y) (36 * k + 3 * z) 0)) votes looked matched without trio takenStar takenAs takenSpot pairs starArms spotArms isTurn places byStar byFar one usedNow laidMany finding) (xs_keyTwo _) (fun H locs hP hS => ?_)
  refine lv_aload hx hb dX0_findsKey_70 (lv_at hl 10 rfl) ?_
  refine lv_iconst (v := 1) hx hb dX0_findsKey_72 (by decide) ?_
  refine lv_iload hx hb dX0_findsKey_73 (lv_at hl 4 rfl) ?_
  refine lv_iload hx hb dX0_findsKey_75 (lv_at hl 3 rfl) ?_
  refine lv_iadd hx hb dX0_findsKey_77 ?_
  refine lv_iload hx hb dX0_findsKey_78 (lv_at hl 2 rfl) ?_
  refine lv_iadd hx hb dX0_findsKey_80 ?_
  refine lv_iload hx hb dX0_findsKey_81 (lv_at hl 1 rfl) ?_
  refine lv_isub hx hb dX0_findsKey_83 ?_
  refine lv_iload hx hb dX0_findsKey_84 (lv_at hl 0 rfl) ?_
  refine lv_isub hx hb dX0_findsKey_86 ?_
  refine lv_aload_n hx hb dX0_findsKey_87 rfl (lv_at hl 5 rfl) ?_
  refine va_get (D := G) (ci := 0) (C := RX0) (T := TX0) (N := 32) hx hb hts in_X0 hown hK hP 0 xk_this rfl 5 (by decide) (hts _ q638) (fun _ h => h) rfl dX0_findsKey_88 ?_
  refine lv_iconst (v := 0) hx hb dX0_findsKey_91 (by decide) ?_
  refine r_iald hx hb hK hP 9 0 xk_settings rfl (f := settings) 0 (nI_q 0) (by decide) (by decide) dX0_findsKey_92 ?_
  refine lv_idiv hx hb dX0_findsKey_93 hb0 ?_
  refine r_top (y := (keyF dir (settings 0) (36 * k + 3 * x) (36 * k + 3 * y) (36 * k + 3 * z) 1)) (kx_1 ..) ?_
  refine r_iast hx hb hK hP (xD hD) hS 12 0 xk_keyTwo rfl 1 (nI_q 1) (by decide) (by decide) dX0_findsKey_94 (ws' := Xx t a K many settings isVoted lotsNow seen keyOne (upd (upd keyTwo 0 (keyF dir (settings 0) (36 * k + 3 * x) (36 * k + 3 * y) (36 * k + 3 * z) 0)) 1 (keyF dir (settings 0) (36 * k + 3 * x) (36 * k + 3 * y) (36 * k + 3 * z) 1)) votes looked matched without trio takenStar takenAs takenSpot pairs starArms spotArms isTurn places byStar byFar one usedNow laidMany finding) (xs_keyTwo _) (fun H locs hP hS => ?_)
  refine lv_aload hx hb dX0_findsKey_95 (lv_at hl 10 rfl) ?_
  refine lv_iconst (v := 2) hx hb dX0_findsKey_97 (by decide) ?_
  refine lv_iload hx hb dX0_findsKey_98 (lv_at hl 0 rfl) ?_
  refine lv_aload_n hx hb dX0_findsKey_100 rfl (lv_at hl 5 rfl) ?_
  refine va_get (D := G) (ci := 0) (C := RX0) (T := TX0) (N := 32) hx hb hts in_X0 hown hK hP 0 xk_this rfl 5 (by decide) (hts _ q638) (fun _ h => h) rfl dX0_findsKey_101 ?_
  refine lv_iconst (v := 0) hx hb dX0_findsKey_104 (by decide) ?_
  refine r_iald hx hb hK hP 9 0 xk_settings rfl (f := settings) 0 (nI_q 0) (by decide) (by decide) dX0_findsKey_105 ?_
  refine lv_idiv hx hb dX0_findsKey_106 hb0 ?_
  refine r_top (y := (keyF dir (settings 0) (36 * k + 3 * x) (36 * k + 3 * y) (36 * k + 3 * z) 2)) (kx_2 ..) ?_
  refine r_iast hx hb hK hP (xD hD) hS 12 0 xk_keyTwo rfl 2 (nI_q 2) (by decide) (by decide) dX0_findsKey_107 (ws' := Xx t a K many settings isVoted lotsNow seen keyOne (upd (upd (upd keyTwo 0 (keyF dir (settings 0) (36 * k + 3 * x) (36 * k + 3 * y) (36 * k + 3 * z) 0)) 1 (keyF dir (settings 0) (36 * k + 3 * x) (36 * k + 3 * y) (36 * k + 3 * z) 1)) 2 (keyF dir (settings 0) (36 * k + 3 * x) (36 * k + 3 * y) (36 * k + 3 * z) 2)) votes looked matched without trio takenStar takenAs takenSpot pairs starArms spotArms isTurn places byStar byFar one usedNow laidMany finding) (xs_keyTwo _) (fun H locs hP hS => ?_)
  exact W.vret hx hb hr (fun tt ht _ => ⟨⟨(keyW keyTwo (keyF dir (settings 0) (36 * k + 3 * x) (36 * k + 3 * y) (36 * k + 3 * z) 0) (keyF dir (settings 0) (36 * k + 3 * x) (36 * k + 3 * y) (36 * k + 3 * z) 1) (keyF dir (settings 0) (36 * k + 3 * x) (36 * k + 3 * y) (36 * k + 3 * z) 2)), rfl, rfl, (show va_P G vwCl ((fun (uv : (Nat → Int32)) => Xx t a K many settings isVoted lotsNow seen keyOne uv votes looked matched without trio takenStar takenAs takenSpot pairs starArms spotArms isTurn places byStar byFar one usedNow laidMany finding) (keyW keyTwo (keyF dir (settings 0) (36 * k + 3 * x) (36 * k + 3 * y) (36 * k + 3 * z) 0) (keyF dir (settings 0) (36 * k + 3 * x) (36 * k + 3 * y) (36 * k + 3 * z) 1) (keyF dir (settings 0) (36 * k + 3 * x) (36 * k + 3 * y) (36 * k + 3 * z) 2))) tt.heap from by rw [ht]; exact hP)⟩, hS.F ht⟩) hS.2.2 dX0_findsKey_108 hlk

set_option maxHeartbeats 4000000 in
theorem mx_areAll (l : Launch) (G : va_G) (t : Nat → ClassId) (A : Nat → Prop) (a : Nat → Nat) (cs : Nat → ClassId) (K : XK) (many : (Nat → Int32)) (settings : (Nat → Int32)) (isVoted : Int32) (lotsNow : Int32) (seen : (Nat → Int32)) (keyOne : (Nat → Int32)) (keyTwo : (Nat → Int32)) (votes : (Nat → Int32)) (looked : Int32) (matched : Int32) (without : Int32) (trio : (Nat → Int32)) (takenStar : (Nat → Int32)) (takenAs : (Nat → Int32)) (takenSpot : (Nat → Int32)) (pairs : Int32) (starArms : (Nat → Int64)) (spotArms : (Nat → Int64)) (isTurn : Int32) (places : (Nat → Int32)) (byStar : (Nat → Int32)) (byFar : (Nat → Int32)) (one : (Nat → Int64)) (usedNow : (Nat → Int32)) (laidMany : (Nat → Int32)) (finding : Int32) (dir : (Nat → Int32)) : Met l yX0_areAll (ws_ yX0_areAll cX0_areAll 3 (some .boolean)) (rm_ 0 3 0 0) (va_Pc [.ref (a 63), .ref (a 11), .ref (a 12)] (xPr G t A a cs K.L (Xx t a K many settings isVoted lotsNow seen keyOne keyTwo votes looked matched without trio takenStar takenAs takenSpot pairs starArms spotArms isTurn places byStar byFar one usedNow laidMany finding))) (vp_Si (fun rv => rv = b2i (allP keyOne keyTwo))) 0 0 (fun _ => False) := by
  refine mkx_W (by decide) (Nat.le_of_ble_eq_true rfl) ?_
  intro p e s m below meth c ls hx hb hml hr hlk hts hown hnm hv hl
  obtain ⟨hP, hK, hD, hA, hE⟩ := hv
  have hS : va_S A s.heap s.heap [] := va_S.rf
  have hl : lv_has ls 3 [(0, .ref (a 63)), (1, .ref (a 11)), (2, .ref (a 12))] := hl
  refine lv_aload_n hx hb dX0_areAll_0 rfl (lv_at hl 0 rfl) ?_
  refine lv_aload_n hx hb dX0_areAll_1 rfl (lv_at hl 1 rfl) ?_
  refine lv_iconst (v := 0) hx hb dX0_areAll_2 (by decide) ?_
  refine r_iald hx hb hK hP 11 0 xk_keyOne rfl (f := keyOne) 0 (nI_q 0) (by decide) (by decide) dX0_areAll_3 ?_
  refine lv_aload_n hx hb dX0_areAll_4 rfl (lv_at hl 2 rfl) ?_
  refine lv_iconst (v := 0) hx hb dX0_areAll_5 (by decide) ?_
  refine r_iald hx hb hK hP 12 0 xk_keyTwo rfl (f := keyTwo) 0 (nI_q 0) (by decide) (by decide) dX0_areAll_6 ?_
  refine xl_near hx hb hml hown hts (xE_near hE) (hE.near.kept hS) hl.1 dX0_areAll_7 (Nat.le_of_ble_eq_true rfl) (Nat.le_of_ble_eq_true rfl) (Nat.le_of_ble_eq_true rfl) ?_
  refine rb_eq (tgt := 49) hx hb dX0_areAll_12 (by decide) (fun c_1 => ?_) (fun c_1 => ?_)
  · refine lv_iconst (v := 0) hx hb dX0_areAll_49 (by decide) ?_
    exact W.zret (v := 0) hx hb hr rfl (fun tt ht _ => ⟨_, rfl, (b2i_f (fun q => c_1 q.1)).symm, ht⟩) (fun _ h => by cases h) dX0_areAll_50 hlk
  · refine lv_aload_n hx hb dX0_areAll_15 rfl (lv_at hl 0 rfl) ?_
    refine lv_aload_n hx hb dX0_areAll_16 rfl (lv_at hl 1 rfl) ?_
    refine lv_iconst (v := 1) hx hb dX0_areAll_17 (by decide) ?_
    refine r_iald hx hb hK hP 11 0 xk_keyOne rfl (f := keyOne) 1 (nI_q 1) (by decide) (by decide) dX0_areAll_18 ?_
    refine lv_aload_n hx hb dX0_areAll_19 rfl (lv_at hl 2 rfl) ?_
    refine lv_iconst (v := 1) hx hb dX0_areAll_20 (by decide) ?_
    refine r_iald hx hb hK hP 12 0 xk_keyTwo rfl (f := keyTwo) 1 (nI_q 1) (by decide) (by decide) dX0_areAll_21 ?_
    refine xl_near hx hb hml hown hts (xE_near hE) (hE.near.kept hS) hl.1 dX0_areAll_22 (Nat.le_of_ble_eq_true rfl) (Nat.le_of_ble_eq_true rfl) (Nat.le_of_ble_eq_true rfl) ?_
    refine rb_eq (tgt := 49) hx hb dX0_areAll_27 (by decide) (fun c_2 => ?_) (fun c_2 => ?_)
    · refine lv_iconst (v := 0) hx hb dX0_areAll_49 (by decide) ?_
      exact W.zret (v := 0) hx hb hr rfl (fun tt ht _ => ⟨_, rfl, (b2i_f (fun q => c_2 q.2.1)).symm, ht⟩) (fun _ h => by cases h) dX0_areAll_50 hlk
    · refine lv_aload_n hx hb dX0_areAll_30 rfl (lv_at hl 0 rfl) ?_
      refine lv_aload_n hx hb dX0_areAll_31 rfl (lv_at hl 1 rfl) ?_
      refine lv_iconst (v := 2) hx hb dX0_areAll_32 (by decide) ?_
      refine r_iald hx hb hK hP 11 0 xk_keyOne rfl (f := keyOne) 2 (nI_q 2) (by decide) (by decide) dX0_areAll_33 ?_
      refine lv_aload_n hx hb dX0_areAll_34 rfl (lv_at hl 2 rfl) ?_
      refine lv_iconst (v := 2) hx hb dX0_areAll_35 (by decide) ?_
      refine r_iald hx hb hK hP 12 0 xk_keyTwo rfl (f := keyTwo) 2 (nI_q 2) (by decide) (by decide) dX0_areAll_36 ?_
      refine xl_near hx hb hml hown hts (xE_near hE) (hE.near.kept hS) hl.1 dX0_areAll_37 (Nat.le_of_ble_eq_true rfl) (Nat.le_of_ble_eq_true rfl) (Nat.le_of_ble_eq_true rfl) ?_
      refine rb_eq (tgt := 49) hx hb dX0_areAll_42 (by decide) (fun c_3 => ?_) (fun c_3 => ?_)
      · refine lv_iconst (v := 0) hx hb dX0_areAll_49 (by decide) ?_
        exact W.zret (v := 0) hx hb hr rfl (fun tt ht _ => ⟨_, rfl, (b2i_f (fun q => c_3 q.2.2)).symm, ht⟩) (fun _ h => by cases h) dX0_areAll_50 hlk
      · refine lv_iconst (v := 1) hx hb dX0_areAll_45 (by decide) ?_
        refine lv_goto (tgt := 50) hx hb dX0_areAll_46 (by decide) ?_
        exact W.zret (v := 1) hx hb hr rfl (fun tt ht _ => ⟨_, rfl, (b2i_t ⟨c_1, c_2, c_3⟩).symm, ht⟩) (fun _ h => by cases h) dX0_areAll_50 hlk

set_option maxHeartbeats 4000000 in
theorem mx_tries (l : Launch) (G : va_G) (t : Nat → ClassId) (A : Nat → Prop) (a : Nat → Nat) (cs : Nat → ClassId) (K : XK) (many : (Nat → Int32)) (settings : (Nat → Int32)) (isVoted : Int32) (lotsNow : Int32) (seen : (Nat → Int32)) (keyOne : (Nat → Int32)) (keyTwo : (Nat → Int32)) (without : Int32) (trio : (Nat → Int32)) (takenStar : (Nat → Int32)) (takenAs : (Nat → Int32)) (takenSpot : (Nat → Int32)) (pairs : Int32) (starArms : (Nat → Int64)) (spotArms : (Nat → Int64)) (isTurn : Int32) (places : (Nat → Int32)) (byStar : (Nat → Int32)) (byFar : (Nat → Int32)) (one : (Nat → Int64)) (usedNow : (Nat → Int32)) (laidMany : (Nat → Int32)) (finding : Int32) (v0 : VS) (dir : (Nat → Int32)) (z : Nat) (tol : Int32) (pp : Nat) (qq : Nat) (rr : Nat) (ii : Nat) (jj : Nat) (kk : Nat) (hM : Mok many) (hB : BodOk K dir many) (h1 : pp < nK many 1) (h2 : qq < nK many 1) (h3 : rr < nK many 1) (h4 : ii < nK many 0) (h5 : jj < nK many 0) (h6 : kk < nK many 0) (ht0 : trio 0 = nI pp) (ht1 : trio 1 = nI qq) (ht2 : trio 2 = nI rr) : Met l yX0_tries (ws_ yX0_tries cX0_tries 7 (none)) (rm_ 0 4 0 0) (va_Pc [.ref (a 0), .ref z, .ref (a 22), .int (nI ii), .int (nI jj), .int (nI kk)] (xPf G t A a cs K.L (Xx t a K many settings isVoted lotsNow seen keyOne keyTwo v0.2.2 v0.1 v0.2.1 without trio takenStar takenAs takenSpot pairs starArms spotArms isTurn places byStar byFar one usedNow laidMany finding) z tol)) (va_Qv (fun (uv : VS) => uv = triesX dir tol pp qq rr ii jj kk v0) (mB G (fun (uv : VS) => Xx t a K many settings isVoted lotsNow seen keyOne keyTwo uv.2.2 uv.1 uv.2.1 without trio takenStar takenAs takenSpot pairs starArms spotArms isTurn places byStar byFar one usedNow laidMany finding)) A) 0 0 A := by
  refine mkx_W (by decide) (Nat.le_of_ble_eq_true rfl) ?_
  intro p e s m below meth c ls hx hb hml hr hlk hts hown hnm hv hl
  obtain ⟨⟨hP, hK, hD, hA, hE⟩, hZ⟩ := hv
  have hS : va_S A s.heap s.heap [] := va_S.rf
  have hl : lv_has ls 7 [(0, .ref (a 0)), (1, .ref z), (2, .ref (a 22)), (3, .int (nI ii)), (4, .int (nI jj)), (5, .int (nI kk))] := hl
  have h0 : nK many 0 ≤ 12 := (hM 0 (by omega)).2
  have h8 : nK many 1 ≤ 8 := (hM 1 (by omega)).2
  refine lv_aload_n hx hb dX0_tries_0 rfl (lv_at hl 1 rfl) ?_
  refine lv_aload_n hx hb dX0_tries_1 rfl (lv_at hl 0 rfl) ?_
  refine lv_iconst (v := 1) hx hb dX0_tries_2 (by decide) ?_
  refine lv_aload_n hx hb dX0_tries_3 rfl (lv_at hl 2 rfl) ?_
  refine lv_iconst (v := 0) hx hb dX0_tries_4 (by decide) ?_
  refine r_iald hx hb hK hP 22 0 xk_trio rfl (f := trio) 0 (nI_q 0) (by decide) (by decide) dX0_tries_5 ?_
  refine lv_aload_n hx hb dX0_tries_6 rfl (lv_at hl 2 rfl) ?_
  refine lv_iconst (v := 1) hx hb dX0_tries_7 (by decide) ?_
  refine r_iald hx hb hK hP 22 0 xk_trio rfl (f := trio) 1 (nI_q 1) (by decide) (by decide) dX0_tries_8 ?_
  refine r_stk (st' := [.int (nI qq), .int (nI pp), .int (nI 1), .ref (a 0), .ref z]) (lc_i ht1 (lc_i ht0 (lc_i (nI_q 1) rfl))) ?_
  refine vp_callSi (W.runV (As := [.int (nI 1), .int (nI pp), .int (nI qq)]) (rest := [.ref z]) ⟨hx, hb, hml, hown, hts⟩ (mx_sideN l G t A a cs K many settings isVoted lotsNow seen keyOne keyTwo v0.2.2 v0.1 v0.2.1 without trio takenStar takenAs takenSpot pairs starArms spotArms isTurn places byStar byFar one usedNow laidMany finding dir 1 pp qq hM hB (by omega) (by omega) (by omega)) (cwV 3 hts (lw_V q264 q243 q244 q80 q245) rfl rfl rfl cd_X0_side ⟨Nat.le_of_ble_eq_true rfl, Nat.le_of_ble_eq_true rfl⟩) ⟨xPr_fb, x_recv hP hK, fun U hU hW => ⟨rfl, xPr_of hP hK hD hS hA hE hU hW⟩⟩ rfl rfl hl.1 rfl (lv_room (Nat.le_of_ble_eq_true rfl)) dX0_tries_9 ⟨Nat.le_of_ble_eq_true rfl, Nat.le_of_ble_eq_true rfl⟩) (fun r hr => ?_)
  subst hr
  refine lv_aload_n hx hb dX0_tries_12 rfl (lv_at hl 0 rfl) ?_
  refine lv_iconst (v := 0) hx hb dX0_tries_13 (by decide) ?_
  refine lv_iload_n hx hb dX0_tries_14 rfl (lv_at hl 3 rfl) ?_
  refine lv_iload hx hb dX0_tries_15 (lv_at hl 4 rfl) ?_
  refine r_stk (st' := [.int (nI jj), .int (nI ii), .int (nI 0), .ref (a 0), .int (sideF dir (36 * 1 + 3 * pp) (36 * 1 + 3 * qq)), .ref z]) (lc_k (lc_k (lc_i (nI_q 0) rfl))) ?_
  refine vp_callSi (W.runV (As := [.int (nI 0), .int (nI ii), .int (nI jj)]) (rest := [.int (sideF dir (36 * 1 + 3 * pp) (36 * 1 + 3 * qq)), .ref z]) ⟨hx, hb, hml, hown, hts⟩ (mx_sideN l G t A a cs K many settings isVoted lotsNow seen keyOne keyTwo v0.2.2 v0.1 v0.2.1 without trio takenStar takenAs takenSpot pairs starArms spotArms isTurn places byStar byFar one usedNow laidMany finding dir 0 ii jj hM hB (by omega) (by omega) (by omega)) (cwV 3 hts (lw_V q264 q243 q244 q80 q245) rfl rfl rfl cd_X0_side ⟨Nat.le_of_ble_eq_true rfl, Nat.le_of_ble_eq_true rfl⟩) ⟨xPr_fb, x_recv hP hK, fun U hU hW => ⟨rfl, xPr_of hP hK hD hS hA hE hU hW⟩⟩ rfl rfl hl.1 rfl (lv_room (Nat.le_of_ble_eq_true rfl)) dX0_tries_17 ⟨Nat.le_of_ble_eq_true rfl, Nat.le_of_ble_eq_true rfl⟩) (fun r hr => ?_)
  subst hr
  refine xl_fit hx hb hml hown hts (xE_fit hE) (hZ.kept hS) hl.1 dX0_tries_20 (Nat.le_of_ble_eq_true rfl) (Nat.le_of_ble_eq_true rfl) (Nat.le_of_ble_eq_true rfl) ?_
  refine rb_eq (tgt := 89) hx hb dX0_tries_25 (by decide) (fun c_1 => ?_) (fun c_1 => ?_)
  · refine lv_iconst (v := 0) hx hb dX0_tries_89 (by decide) ?_
    refine lv_istore (lv' := [(6, .int 0), (0, .ref (a 0)), (1, .ref z), (2, .ref (a 22)), (3, .int (nI ii)), (4, .int (nI jj)), (5, .int (nI kk))]) hx hb dX0_tries_90 hl (by decide) rfl (fun ls hl => ?_)
    refine lv_iload hx hb dX0_tries_92 (lv_at hl 0 rfl) ?_
    refine lv_if_eq (tgt := 151) hx hb dX0_tries_94 (by decide) (fun c_2 => ?_) (fun c_2 => absurd c_2 (by decide))
    have hP : va_P G vwCl (Xx t a K many settings isVoted lotsNow seen keyOne keyTwo ((triesX dir tol pp qq rr ii jj kk v0).2.2) ((triesX dir tol pp qq rr ii jj kk v0).1) ((triesX dir tol pp qq rr ii jj kk v0).2.1) without trio takenStar takenAs takenSpot pairs starArms spotArms isTurn places byStar byFar one usedNow laidMany finding) s.heap := by (unfold triesX; skip; (first | rw [if_pos c_1] | rw [if_neg c_1]); skip; exact hP)
    exact W.vret hx hb hr (fun tt ht _ => ⟨⟨(triesX dir tol pp qq rr ii jj kk v0), rfl, rfl, (show va_P G vwCl ((fun (uv : VS) => Xx t a K many settings isVoted lotsNow seen keyOne keyTwo uv.2.2 uv.1 uv.2.1 without trio takenStar takenAs takenSpot pairs starArms spotArms isTurn places byStar byFar one usedNow laidMany finding) (triesX dir tol pp qq rr ii jj kk v0)) tt.heap from by rw [ht]; exact hP)⟩, hS.F ht⟩) hS.2.2 dX0_tries_151 hlk
  · refine lv_aload_n hx hb dX0_tries_28 rfl (lv_at hl 1 rfl) ?_
    refine lv_aload_n hx hb dX0_tries_29 rfl (lv_at hl 0 rfl) ?_
    refine lv_iconst (v := 1) hx hb dX0_tries_30 (by decide) ?_
    refine lv_aload_n hx hb dX0_tries_31 rfl (lv_at hl 2 rfl) ?_
    refine lv_iconst (v := 1) hx hb dX0_tries_32 (by decide) ?_
    refine r_iald hx hb hK hP 22 0 xk_trio rfl (f := trio) 1 (nI_q 1) (by decide) (by decide) dX0_tries_33 ?_
    refine lv_aload_n hx hb dX0_tries_34 rfl (lv_at hl 2 rfl) ?_
    refine lv_iconst (v := 2) hx hb dX0_tries_35 (by decide) ?_
    refine r_iald hx hb hK hP 22 0 xk_trio rfl (f := trio) 2 (nI_q 2) (by decide) (by decide) dX0_tries_36 ?_
    refine r_stk (st' := [.int (nI rr), .int (nI qq), .int (nI 1), .ref (a 0), .ref z]) (lc_i ht2 (lc_i ht1 (lc_i (nI_q 1) rfl))) ?_
    refine vp_callSi (W.runV (As := [.int (nI 1), .int (nI qq), .int (nI rr)]) (rest := [.ref z]) ⟨hx, hb, hml, hown, hts⟩ (mx_sideN l G t A a cs K many settings isVoted lotsNow seen keyOne keyTwo v0.2.2 v0.1 v0.2.1 without trio takenStar takenAs takenSpot pairs starArms spotArms isTurn places byStar byFar one usedNow laidMany finding dir 1 qq rr hM hB (by omega) (by omega) (by omega)) (cwV 3 hts (lw_V q264 q243 q244 q80 q245) rfl rfl rfl cd_X0_side ⟨Nat.le_of_ble_eq_true rfl, Nat.le_of_ble_eq_true rfl⟩) ⟨xPr_fb, x_recv hP hK, fun U hU hW => ⟨rfl, xPr_of hP hK hD hS hA hE hU hW⟩⟩ rfl rfl hl.1 rfl (lv_room (Nat.le_of_ble_eq_true rfl)) dX0_tries_37 ⟨Nat.le_of_ble_eq_true rfl, Nat.le_of_ble_eq_true rfl⟩) (fun r hr => ?_)
    subst hr
    refine lv_aload_n hx hb dX0_tries_40 rfl (lv_at hl 0 rfl) ?_
    refine lv_iconst (v := 0) hx hb dX0_tries_41 (by decide) ?_
    refine lv_iload hx hb dX0_tries_42 (lv_at hl 4 rfl) ?_
    refine lv_iload hx hb dX0_tries_44 (lv_at hl 5 rfl) ?_
    refine r_stk (st' := [.int (nI kk), .int (nI jj), .int (nI 0), .ref (a 0), .int (sideF dir (36 * 1 + 3 * qq) (36 * 1 + 3 * rr)), .ref z]) (lc_k (lc_k (lc_i (nI_q 0) rfl))) ?_
    refine vp_callSi (W.runV (As := [.int (nI 0), .int (nI jj), .int (nI kk)]) (rest := [.int (sideF dir (36 * 1 + 3 * qq) (36 * 1 + 3 * rr)), .ref z]) ⟨hx, hb, hml, hown, hts⟩ (mx_sideN l G t A a cs K many settings isVoted lotsNow seen keyOne keyTwo v0.2.2 v0.1 v0.2.1 without trio takenStar takenAs takenSpot pairs starArms spotArms isTurn places byStar byFar one usedNow laidMany finding dir 0 jj kk hM hB (by omega) (by omega) (by omega)) (cwV 3 hts (lw_V q264 q243 q244 q80 q245) rfl rfl rfl cd_X0_side ⟨Nat.le_of_ble_eq_true rfl, Nat.le_of_ble_eq_true rfl⟩) ⟨xPr_fb, x_recv hP hK, fun U hU hW => ⟨rfl, xPr_of hP hK hD hS hA hE hU hW⟩⟩ rfl rfl hl.1 rfl (lv_room (Nat.le_of_ble_eq_true rfl)) dX0_tries_46 ⟨Nat.le_of_ble_eq_true rfl, Nat.le_of_ble_eq_true rfl⟩) (fun r hr => ?_)
    subst hr
    refine xl_fit hx hb hml hown hts (xE_fit hE) (hZ.kept hS) hl.1 dX0_tries_49 (Nat.le_of_ble_eq_true rfl) (Nat.le_of_ble_eq_true rfl) (Nat.le_of_ble_eq_true rfl) ?_
    refine rb_eq (tgt := 89) hx hb dX0_tries_54 (by decide) (fun c_3 => ?_) (fun c_3 => ?_)
    · refine lv_iconst (v := 0) hx hb dX0_tries_89 (by decide) ?_
      refine lv_istore (lv' := [(6, .int 0), (0, .ref (a 0)), (1, .ref z), (2, .ref (a 22)), (3, .int (nI ii)), (4, .int (nI jj)), (5, .int (nI kk))]) hx hb dX0_tries_90 hl (by decide) rfl (fun ls hl => ?_)
      refine lv_iload hx hb dX0_tries_92 (lv_at hl 0 rfl) ?_
      refine lv_if_eq (tgt := 151) hx hb dX0_tries_94 (by decide) (fun c_4 => ?_) (fun c_4 => absurd c_4 (by decide))
      have hP : va_P G vwCl (Xx t a K many settings isVoted lotsNow seen keyOne keyTwo ((triesX dir tol pp qq rr ii jj kk v0).2.2) ((triesX dir tol pp qq rr ii jj kk v0).1) ((triesX dir tol pp qq rr ii jj kk v0).2.1) without trio takenStar takenAs takenSpot pairs starArms spotArms isTurn places byStar byFar one usedNow laidMany finding) s.heap := by (unfold triesX; skip; (first | rw [if_pos c_1] | rw [if_neg c_1]); (first | rw [if_pos c_3] | rw [if_neg c_3]); skip; exact hP)
      exact W.vret hx hb hr (fun tt ht _ => ⟨⟨(triesX dir tol pp qq rr ii jj kk v0), rfl, rfl, (show va_P G vwCl ((fun (uv : VS) => Xx t a K many settings isVoted lotsNow seen keyOne keyTwo uv.2.2 uv.1 uv.2.1 without trio takenStar takenAs takenSpot pairs starArms spotArms isTurn places byStar byFar one usedNow laidMany finding) (triesX dir tol pp qq rr ii jj kk v0)) tt.heap from by rw [ht]; exact hP)⟩, hS.F ht⟩) hS.2.2 dX0_tries_151 hlk
    · refine lv_aload_n hx hb dX0_tries_57 rfl (lv_at hl 1 rfl) ?_
      refine lv_aload_n hx hb dX0_tries_58 rfl (lv_at hl 0 rfl) ?_
      refine lv_iconst (v := 1) hx hb dX0_tries_59 (by decide) ?_
      refine lv_aload_n hx hb dX0_tries_60 rfl (lv_at hl 2 rfl) ?_
      refine lv_iconst (v := 0) hx hb dX0_tries_61 (by decide) ?_
      refine r_iald hx hb hK hP 22 0 xk_trio rfl (f := trio) 0 (nI_q 0) (by decide) (by decide) dX0_tries_62 ?_
      refine lv_aload_n hx hb dX0_tries_63 rfl (lv_at hl 2 rfl) ?_
      refine lv_iconst (v := 2) hx hb dX0_tries_64 (by decide) ?_
      refine r_iald hx hb hK hP 22 0 xk_trio rfl (f := trio) 2 (nI_q 2) (by decide) (by decide) dX0_tries_65 ?_
      refine r_stk (st' := [.int (nI rr), .int (nI pp), .int (nI 1), .ref (a 0), .ref z]) (lc_i ht2 (lc_i ht0 (lc_i (nI_q 1) rfl))) ?_
      refine vp_callSi (W.runV (As := [.int (nI 1), .int (nI pp), .int (nI rr)]) (rest := [.ref z]) ⟨hx, hb, hml, hown, hts⟩ (mx_sideN l G t A a cs K many settings isVoted lotsNow seen keyOne keyTwo v0.2.2 v0.1 v0.2.1 without trio takenStar takenAs takenSpot pairs starArms spotArms isTurn places byStar byFar one usedNow laidMany finding dir 1 pp rr hM hB (by omega) (by omega) (by omega)) (cwV 3 hts (lw_V q264 q243 q244 q80 q245) rfl rfl rfl cd_X0_side ⟨Nat.le_of_ble_eq_true rfl, Nat.le_of_ble_eq_true rfl⟩) ⟨xPr_fb, x_recv hP hK, fun U hU hW => ⟨rfl, xPr_of hP hK hD hS hA hE hU hW⟩⟩ rfl rfl hl.1 rfl (lv_room (Nat.le_of_ble_eq_true rfl)) dX0_tries_66 ⟨Nat.le_of_ble_eq_true rfl, Nat.le_of_ble_eq_true rfl⟩) (fun r hr => ?_)
      subst hr
      refine lv_aload_n hx hb dX0_tries_69 rfl (lv_at hl 0 rfl) ?_
      refine lv_iconst (v := 0) hx hb dX0_tries_70 (by decide) ?_
      refine lv_iload_n hx hb dX0_tries_71 rfl (lv_at hl 3 rfl) ?_
      refine lv_iload hx hb dX0_tries_72 (lv_at hl 5 rfl) ?_
      refine r_stk (st' := [.int (nI kk), .int (nI ii), .int (nI 0), .ref (a 0), .int (sideF dir (36 * 1 + 3 * pp) (36 * 1 + 3 * rr)), .ref z]) (lc_k (lc_k (lc_i (nI_q 0) rfl))) ?_
      refine vp_callSi (W.runV (As := [.int (nI 0), .int (nI ii), .int (nI kk)]) (rest := [.int (sideF dir (36 * 1 + 3 * pp) (36 * 1 + 3 * rr)), .ref z]) ⟨hx, hb, hml, hown, hts⟩ (mx_sideN l G t A a cs K many settings isVoted lotsNow seen keyOne keyTwo v0.2.2 v0.1 v0.2.1 without trio takenStar takenAs takenSpot pairs starArms spotArms isTurn places byStar byFar one usedNow laidMany finding dir 0 ii kk hM hB (by omega) (by omega) (by omega)) (cwV 3 hts (lw_V q264 q243 q244 q80 q245) rfl rfl rfl cd_X0_side ⟨Nat.le_of_ble_eq_true rfl, Nat.le_of_ble_eq_true rfl⟩) ⟨xPr_fb, x_recv hP hK, fun U hU hW => ⟨rfl, xPr_of hP hK hD hS hA hE hU hW⟩⟩ rfl rfl hl.1 rfl (lv_room (Nat.le_of_ble_eq_true rfl)) dX0_tries_74 ⟨Nat.le_of_ble_eq_true rfl, Nat.le_of_ble_eq_true rfl⟩) (fun r hr => ?_)
      subst hr
      refine xl_fit hx hb hml hown hts (xE_fit hE) (hZ.kept hS) hl.1 dX0_tries_77 (Nat.le_of_ble_eq_true rfl) (Nat.le_of_ble_eq_true rfl) (Nat.le_of_ble_eq_true rfl) ?_
      refine rb_eq (tgt := 89) hx hb dX0_tries_82 (by decide) (fun c_5 => ?_) (fun c_5 => ?_)
      · refine lv_iconst (v := 0) hx hb dX0_tries_89 (by decide) ?_
        refine lv_istore (lv' := [(6, .int 0), (0, .ref (a 0)), (1, .ref z), (2, .ref (a 22)), (3, .int (nI ii)), (4, .int (nI jj)), (5, .int (nI kk))]) hx hb dX0_tries_90 hl (by decide) rfl (fun ls hl => ?_)
        refine lv_iload hx hb dX0_tries_92 (lv_at hl 0 rfl) ?_
        refine lv_if_eq (tgt := 151) hx hb dX0_tries_94 (by decide) (fun c_6 => ?_) (fun c_6 => absurd c_6 (by decide))
        have hP : va_P G vwCl (Xx t a K many settings isVoted lotsNow seen keyOne keyTwo ((triesX dir tol pp qq rr ii jj kk v0).2.2) ((triesX dir tol pp qq rr ii jj kk v0).1) ((triesX dir tol pp qq rr ii jj kk v0).2.1) without trio takenStar takenAs takenSpot pairs starArms spotArms isTurn places byStar byFar one usedNow laidMany finding) s.heap := by (unfold triesX; skip; (first | rw [if_pos c_1] | rw [if_neg c_1]); (first | rw [if_pos c_3] | rw [if_neg c_3]); (first | rw [if_pos c_5] | rw [if_neg c_5]); skip; exact hP)
        exact W.vret hx hb hr (fun tt ht _ => ⟨⟨(triesX dir tol pp qq rr ii jj kk v0), rfl, rfl, (show va_P G vwCl ((fun (uv : VS) => Xx t a K many settings isVoted lotsNow seen keyOne keyTwo uv.2.2 uv.1 uv.2.1 without trio takenStar takenAs takenSpot pairs starArms spotArms isTurn places byStar byFar one usedNow laidMany finding) (triesX dir tol pp qq rr ii jj kk v0)) tt.heap from by rw [ht]; exact hP)⟩, hS.F ht⟩) hS.2.2 dX0_tries_151 hlk
      · refine lv_iconst (v := 1) hx hb dX0_tries_85 (by decide) ?_
        refine lv_goto (tgt := 90) hx hb dX0_tries_86 (by decide) ?_
        refine lv_istore (lv' := [(6, .int 1), (0, .ref (a 0)), (1, .ref z), (2, .ref (a 22)), (3, .int (nI ii)), (4, .int (nI jj)), (5, .int (nI kk))]) hx hb dX0_tries_90 hl (by decide) rfl (fun ls hl => ?_)
        refine lv_iload hx hb dX0_tries_92 (lv_at hl 0 rfl) ?_
        refine lv_if_eq (tgt := 151) hx hb dX0_tries_94 (by decide) (fun c_7 => absurd c_7 (by decide)) (fun c_7 => ?_)
        refine lv_aload_n hx hb dX0_tries_97 rfl (lv_at hl 1 rfl) ?_
        refine va_get (D := G) (ci := 0) (C := RX0) (T := TX0) (N := 32) hx hb hts in_X0 hown hK hP 0 xk_this rfl 11 (by decide) (hts _ q644) (fun _ h => h) rfl dX0_tries_98 ?_
        refine lv_aload_n hx hb dX0_tries_101 rfl (lv_at hl 3 rfl) ?_
        refine lv_iconst (v := 0) hx hb dX0_tries_102 (by decide) ?_
        refine r_iald hx hb hK hP 22 0 xk_trio rfl (f := trio) 0 (nI_q 0) (by decide) (by decide) dX0_tries_103 ?_
        refine xq_aald (r := .ref (a (14 + pp))) hx hb hK hP 13 11 xk_votes rfl rfl pp ht0 (by omega) (by decide) rfl dX0_tries_104 ?_
        refine lv_iload_n hx hb dX0_tries_105 rfl (lv_at hl 4 rfl) ?_
        refine lv_dup2_11 hx hb dX0_tries_106 rfl rfl ?_
        refine r_iald hx hb hK hP (14 + pp) 0 (xr_votes (by omega)) rfl ii rfl (by omega) (by decide) dX0_tries_107 ?_
        refine r_top (y := (v0.2.2 (12 * pp + ii))) rfl ?_
        refine lv_iconst (v := 1) hx hb dX0_tries_108 (by decide) ?_
        refine lv_iadd hx hb dX0_tries_109 ?_
        refine r_iast hx hb hK hP (xD hD) hS (14 + pp) 0 (xr_votes (by omega)) rfl ii rfl (by omega) (by decide) dX0_tries_110 rfl (fun H locs hP hS => ?_)
        have hP : va_P G vwCl (Xx t a K many settings isVoted lotsNow seen keyOne keyTwo (upd v0.2.2 (12 * pp + ii) ((v0.2.2 (12 * pp + ii)) + 1)) v0.1 v0.2.1 without trio takenStar takenAs takenSpot pairs starArms spotArms isTurn places byStar byFar one usedNow laidMany finding) H := xt_votes (by omega) (by omega) hP
        refine lv_aload_n hx hb dX0_tries_111 rfl (lv_at hl 1 rfl) ?_
        refine va_get (D := G) (ci := 0) (C := RX0) (T := TX0) (N := 32) hx hb hts in_X0 hown hK hP 0 xk_this rfl 11 (by decide) (hts _ q644) (fun _ h => h) rfl dX0_tries_112 ?_
        refine lv_aload_n hx hb dX0_tries_115 rfl (lv_at hl 3 rfl) ?_
        refine lv_iconst (v := 1) hx hb dX0_tries_116 (by decide) ?_
        refine r_iald hx hb hK hP 22 0 xk_trio rfl (f := trio) 1 (nI_q 1) (by decide) (by decide) dX0_tries_117 ?_
        refine xq_aald (r := .ref (a (14 + qq))) hx hb hK hP 13 11 xk_votes rfl rfl qq ht1 (by omega) (by decide) rfl dX0_tries_118 ?_
        refine lv_iload hx hb dX0_tries_119 (lv_at hl 5 rfl) ?_
        refine lv_dup2_11 hx hb dX0_tries_121 rfl rfl ?_
        refine r_iald hx hb hK hP (14 + qq) 0 (xr_votes (by omega)) rfl jj rfl (by omega) (by decide) dX0_tries_122 ?_
        refine r_top (y := ((upd v0.2.2 (12 * pp + ii) ((v0.2.2 (12 * pp + ii)) + 1)) (12 * qq + jj))) rfl ?_
        refine lv_iconst (v := 1) hx hb dX0_tries_123 (by decide) ?_
        refine lv_iadd hx hb dX0_tries_124 ?_
        refine r_iast hx hb hK hP (xD hD) hS (14 + qq) 0 (xr_votes (by omega)) rfl jj rfl (by omega) (by decide) dX0_tries_125 rfl (fun H locs hP hS => ?_)
        have hP : va_P G vwCl (Xx t a K many settings isVoted lotsNow seen keyOne keyTwo (upd (upd v0.2.2 (12 * pp + ii) ((v0.2.2 (12 * pp + ii)) + 1)) (12 * qq + jj) (((upd v0.2.2 (12 * pp + ii) ((v0.2.2 (12 * pp + ii)) + 1)) (12 * qq + jj)) + 1)) v0.1 v0.2.1 without trio takenStar takenAs takenSpot pairs starArms spotArms isTurn places byStar byFar one usedNow laidMany finding) H := xt_votes (by omega) (by omega) hP
        refine lv_aload_n hx hb dX0_tries_126 rfl (lv_at hl 1 rfl) ?_
        refine va_get (D := G) (ci := 0) (C := RX0) (T := TX0) (N := 32) hx hb hts in_X0 hown hK hP 0 xk_this rfl 11 (by decide) (hts _ q644) (fun _ h => h) rfl dX0_tries_127 ?_
        refine lv_aload_n hx hb dX0_tries_130 rfl (lv_at hl 3 rfl) ?_
        refine lv_iconst (v := 2) hx hb dX0_tries_131 (by decide) ?_
        refine r_iald hx hb hK hP 22 0 xk_trio rfl (f := trio) 2 (nI_q 2) (by decide) (by decide) dX0_tries_132 ?_
        refine xq_aald (r := .ref (a (14 + rr))) hx hb hK hP 13 11 xk_votes rfl rfl rr ht2 (by omega) (by decide) rfl dX0_tries_133 ?_
        refine lv_iload hx hb dX0_tries_134 (lv_at hl 6 rfl) ?_
        refine lv_dup2_11 hx hb dX0_tries_136 rfl rfl ?_
        refine r_iald hx hb hK hP (14 + rr) 0 (xr_votes (by omega)) rfl kk rfl (by omega) (by decide) dX0_tries_137 ?_
        refine r_top (y := ((upd (upd v0.2.2 (12 * pp + ii) ((v0.2.2 (12 * pp + ii)) + 1)) (12 * qq + jj) (((upd v0.2.2 (12 * pp + ii) ((v0.2.2 (12 * pp + ii)) + 1)) (12 * qq + jj)) + 1)) (12 * rr + kk))) rfl ?_
        refine lv_iconst (v := 1) hx hb dX0_tries_138 (by decide) ?_
        refine lv_iadd hx hb dX0_tries_139 ?_
        refine r_iast hx hb hK hP (xD hD) hS (14 + rr) 0 (xr_votes (by omega)) rfl kk rfl (by omega) (by decide) dX0_tries_140 rfl (fun H locs hP hS => ?_)
        have hP : va_P G vwCl (Xx t a K many settings isVoted lotsNow seen keyOne keyTwo (upd (upd (upd v0.2.2 (12 * pp + ii) ((v0.2.2 (12 * pp + ii)) + 1)) (12 * qq + jj) (((upd v0.2.2 (12 * pp + ii) ((v0.2.2 (12 * pp + ii)) + 1)) (12 * qq + jj)) + 1)) (12 * rr + kk) (((upd (upd v0.2.2 (12 * pp + ii) ((v0.2.2 (12 * pp + ii)) + 1)) (12 * qq + jj) (((upd v0.2.2 (12 * pp + ii) ((v0.2.2 (12 * pp + ii)) + 1)) (12 * qq + jj)) + 1)) (12 * rr + kk)) + 1)) v0.1 v0.2.1 without trio takenStar takenAs takenSpot pairs starArms spotArms isTurn places byStar byFar one usedNow laidMany finding) H := xt_votes (by omega) (by omega) hP
        refine lv_aload_n hx hb dX0_tries_141 rfl (lv_at hl 1 rfl) ?_
        refine lv_dup hx hb dX0_tries_142 rfl ?_
        refine va_get (D := G) (ci := 0) (C := RX0) (T := TX0) (N := 32) hx hb hts in_X0 hown hK hP 0 xk_this rfl 13 (by decide) (hts _ q646) (fun _ h => h) rfl dX0_tries_143 ?_
        refine lv_iconst (v := 1) hx hb dX0_tries_146 (by decide) ?_
        refine lv_iadd hx hb dX0_tries_147 ?_
        refine va_put (D := G) (ci := 0) (v := .int (v0.2.1 + 1)) (ty := .int) (C := RX0) (T := TX0) (N := 32) hx hb hts in_X0 tyX0 tyX0_ok nmX0 hown hK hP (xD hD) hS 0 xk_this rfl 13 (by decide) (hts _ q646) (fun _ h => h) rfl (by decide +kernel) rfl rfl (Nat.le_of_ble_eq_true rfl) dX0_tries_148 (fun H locs hP _ hS => ?_)
        have hP : va_P G vwCl (Xx t a K many settings isVoted lotsNow seen keyOne keyTwo (upd (upd (upd v0.2.2 (12 * pp + ii) ((v0.2.2 (12 * pp + ii)) + 1)) (12 * qq + jj) (((upd v0.2.2 (12 * pp + ii) ((v0.2.2 (12 * pp + ii)) + 1)) (12 * qq + jj)) + 1)) (12 * rr + kk) (((upd (upd v0.2.2 (12 * pp + ii) ((v0.2.2 (12 * pp + ii)) + 1)) (12 * qq + jj) (((upd v0.2.2 (12 * pp + ii) ((v0.2.2 (12 * pp + ii)) + 1)) (12 * qq + jj)) + 1)) (12 * rr + kk)) + 1)) v0.1 (v0.2.1 + 1) without trio takenStar takenAs takenSpot pairs starArms spotArms isTurn places byStar byFar one usedNow laidMany finding) H := by rw [xs_matched] at hP; exact hP
        have hP : va_P G vwCl (Xx t a K many settings isVoted lotsNow seen keyOne keyTwo ((triesX dir tol pp qq rr ii jj kk v0).2.2) ((triesX dir tol pp qq rr ii jj kk v0).1) ((triesX dir tol pp qq rr ii jj kk v0).2.1) without trio takenStar takenAs takenSpot pairs starArms spotArms isTurn places byStar byFar one usedNow laidMany finding) H := by (unfold triesX; skip; (first | rw [if_pos c_1] | rw [if_neg c_1]); (first | rw [if_pos c_3] | rw [if_neg c_3]); (first | rw [if_pos c_5] | rw [if_neg c_5]); skip; exact hP)
        exact W.vret hx hb hr (fun tt ht _ => ⟨⟨(triesX dir tol pp qq rr ii jj kk v0), rfl, rfl, (show va_P G vwCl ((fun (uv : VS) => Xx t a K many settings isVoted lotsNow seen keyOne keyTwo uv.2.2 uv.1 uv.2.1 without trio takenStar takenAs takenSpot pairs starArms spotArms isTurn places byStar byFar one usedNow laidMany finding) (triesX dir tol pp qq rr ii jj kk v0)) tt.heap from by rw [ht]; exact hP)⟩, hS.F ht⟩) hS.2.2 dX0_tries_151 hlk

set_option maxHeartbeats 4000000 in
theorem mx_looksAt (l : Launch) (G : va_G) (t : Nat → ClassId) (A : Nat → Prop) (a : Nat → Nat) (cs : Nat → ClassId) (K : XK) (many : (Nat → Int32)) (settings : (Nat → Int32)) (isVoted : Int32) (lotsNow : Int32) (seen : (Nat → Int32)) (keyOne : (Nat → Int32)) (keyTwo : (Nat → Int32)) (without : Int32) (trio : (Nat → Int32)) (takenStar : (Nat → Int32)) (takenAs : (Nat → Int32)) (takenSpot : (Nat → Int32)) (pairs : Int32) (starArms : (Nat → Int64)) (spotArms : (Nat → Int64)) (isTurn : Int32) (places : (Nat → Int32)) (byStar : (Nat → Int32)) (byFar : (Nat → Int32)) (one : (Nat → Int64)) (usedNow : (Nat → Int32)) (laidMany : (Nat → Int32)) (finding : Int32) (v0 : VS) (dir : (Nat → Int32)) (z : Nat) (tol : Int32) (pp : Nat) (qq : Nat) (rr : Nat) (ii : Nat) (jj : Nat) (kk : Nat) (hM : Mok many) (hB : BodOk K dir many) (h1 : pp < nK many 1) (h2 : qq < nK many 1) (h3 : rr < nK many 1) (h4 : ii < nK many 0) (h5 : jj < nK many 0) (h6 : kk < nK many 0) (ht0 : trio 0 = nI pp) (ht1 : trio 1 = nI qq) (ht2 : trio 2 = nI rr) : Met l yX0_looksAt (ws_ yX0_looksAt cX0_looksAt 5 (none)) (rm_ 0 5 0 0) (va_Pc [.ref (a 0), .ref z, .int (nI ii), .int (nI jj), .int (nI kk)] (xPf G t A a cs K.L (Xx t a K many settings isVoted lotsNow seen keyOne keyTwo v0.2.2 v0.1 v0.2.1 without trio takenStar takenAs takenSpot pairs starArms spotArms isTurn places byStar byFar one usedNow laidMany finding) z tol)) (va_Qv (fun (uv : VS) => uv = sixX dir tol pp qq rr ii jj kk (v0.1 + 1, v0.2.1, v0.2.2)) (mB G (fun (uv : VS) => Xx t a K many settings isVoted lotsNow seen keyOne keyTwo uv.2.2 uv.1 uv.2.1 without trio takenStar takenAs takenSpot pairs starArms spotArms isTurn places byStar byFar one usedNow laidMany finding)) A) 0 0 A := by
  refine mkx_W (by decide) (Nat.le_of_ble_eq_true rfl) ?_
  intro p e s m below meth c ls hx hb hml hr hlk hts hown hnm hv hl
  obtain ⟨⟨hP, hK, hD, hA, hE⟩, hZ⟩ := hv
  have hS : va_S A s.heap s.heap [] := va_S.rf
  have hl : lv_has ls 5 [(0, .ref (a 0)), (1, .ref z), (2, .int (nI ii)), (3, .int (nI jj)), (4, .int (nI kk))] := hl
  have h0 : nK many 0 ≤ 12 := (hM 0 (by omega)).2
  have h8 : nK many 1 ≤ 8 := (hM 1 (by omega)).2
  refine lv_aload_n hx hb dX0_looksAt_0 rfl (lv_at hl 0 rfl) ?_
  refine lv_dup hx hb dX0_looksAt_1 rfl ?_
  refine va_get (D := G) (ci := 0) (C := RX0) (T := TX0) (N := 32) hx hb hts in_X0 hown hK hP 0 xk_this rfl 12 (by decide) (hts _ q645) (fun _ h => h) rfl dX0_looksAt_2 ?_
  refine lv_iconst (v := 1) hx hb dX0_looksAt_5 (by decide) ?_
  refine lv_iadd hx hb dX0_looksAt_6 ?_
  refine va_put (D := G) (ci := 0) (v := .int (v0.1 + 1)) (ty := .int) (C := RX0) (T := TX0) (N := 32) hx hb hts in_X0 tyX0 tyX0_ok nmX0 hown hK hP (xD hD) hS 0 xk_this rfl 12 (by decide) (hts _ q645) (fun _ h => h) rfl (by decide +kernel) rfl rfl (Nat.le_of_ble_eq_true rfl) dX0_looksAt_7 (fun H locs hP _ hS => ?_)
  have hP : va_P G vwCl (Xx t a K many settings isVoted lotsNow seen keyOne keyTwo v0.2.2 (v0.1 + 1) v0.2.1 without trio takenStar takenAs takenSpot pairs starArms spotArms isTurn places byStar byFar one usedNow laidMany finding) H := by rw [xs_looked] at hP; exact hP
  have hP : va_P G vwCl (Xx t a K many settings isVoted lotsNow seen keyOne keyTwo (((v0.1 + 1), v0.2.1, v0.2.2).2.2) (((v0.1 + 1), v0.2.1, v0.2.2).1) (((v0.1 + 1), v0.2.1, v0.2.2).2.1) without trio takenStar takenAs takenSpot pairs starArms spotArms isTurn places byStar byFar one usedNow laidMany finding) H := hP
  refine lv_aload_n hx hb dX0_looksAt_10 rfl (lv_at hl 0 rfl) ?_
  refine lv_aload_n hx hb dX0_looksAt_11 rfl (lv_at hl 1 rfl) ?_
  refine lv_aload_n hx hb dX0_looksAt_12 rfl (lv_at hl 0 rfl) ?_
  refine va_get (D := G) (ci := 0) (C := RX0) (T := TX0) (N := 32) hx hb hts in_X0 hown hK hP 0 xk_this rfl 15 (by decide) (hts _ q648) (fun _ h => h) rfl dX0_looksAt_13 ?_
  refine lv_iload_n hx hb dX0_looksAt_16 rfl (lv_at hl 2 rfl) ?_
  refine lv_iload_n hx hb dX0_looksAt_17 rfl (lv_at hl 3 rfl) ?_
  refine lv_iload hx hb dX0_looksAt_18 (lv_at hl 4 rfl) ?_
  refine va_callv (va_runV (As := [.ref z, .ref (a 22), .int (nI ii), .int (nI jj), .int (nI kk)]) (rest := []) ⟨hx, hb, hml, hown, hts⟩ (mx_tries l G t A a cs K many settings isVoted lotsNow seen keyOne keyTwo without trio takenStar takenAs takenSpot pairs starArms spotArms isTurn places byStar byFar one usedNow laidMany finding ((v0.1 + 1), v0.2.1, v0.2.2) dir z tol pp qq rr ii jj kk hM hB (by omega) (by omega) (by omega) (by omega) (by omega) (by omega) ht0 ht1 ht2) (cwV 5 hts (lw_V q305 q307 qs15 q80 q308) rfl rfl rfl cd_X0_tries ⟨Nat.le_of_ble_eq_true rfl, Nat.le_of_ble_eq_true rfl⟩) ⟨xPf_fb, x_recv hP hK, fun U hU hW => ⟨rfl, xPf_of hP hK hD hS hA hE hZ hU hW⟩⟩ rfl rfl hl.1 rfl (lv_room (Nat.le_of_ble_eq_true rfl)) dX0_looksAt_20 ⟨Nat.le_of_ble_eq_true rfl, Nat.le_of_ble_eq_true rfl⟩) hS (fun _ _ h => h) (fun _ h => h) (fun u tt H locs ht _ hq hP _ hkp hS => ?_)
  obtain rfl := hq
  have hP : va_P G vwCl (Xx t a K many settings isVoted lotsNow seen keyOne keyTwo ((triesX dir tol pp qq rr ii jj kk ((v0.1 + 1), v0.2.1, v0.2.2)).2.2) ((triesX dir tol pp qq rr ii jj kk ((v0.1 + 1), v0.2.1, v0.2.2)).1) ((triesX dir tol pp qq rr ii jj kk ((v0.1 + 1), v0.2.1, v0.2.2)).2.1) without trio takenStar takenAs takenSpot pairs starArms spotArms isTurn places byStar byFar one usedNow laidMany finding) H := by rw [← ht]; exact hP
  refine lv_aload_n hx hb dX0_looksAt_23 rfl (lv_at hl 0 rfl) ?_
  refine lv_aload_n hx hb dX0_looksAt_24 rfl (lv_at hl 1 rfl) ?_
  refine lv_aload_n hx hb dX0_looksAt_25 rfl (lv_at hl 0 rfl) ?_
  refine va_get (D := G) (ci := 0) (C := RX0) (T := TX0) (N := 32) hx hb hts in_X0 hown hK hP 0 xk_this rfl 15 (by decide) (hts _ q648) (fun _ h => h) rfl dX0_looksAt_26 ?_
  refine lv_iload_n hx hb dX0_looksAt_29 rfl (lv_at hl 2 rfl) ?_
  refine lv_iload hx hb dX0_looksAt_30 (lv_at hl 4 rfl) ?_
  refine lv_iload_n hx hb dX0_looksAt_32 rfl (lv_at hl 3 rfl) ?_
  refine va_callv (va_runV (As := [.ref z, .ref (a 22), .int (nI ii), .int (nI kk), .int (nI jj)]) (rest := []) ⟨hx, hb, hml, hown, hts⟩ (mx_tries l G t A a cs K many settings isVoted lotsNow seen keyOne keyTwo without trio takenStar takenAs takenSpot pairs starArms spotArms isTurn places byStar byFar one usedNow laidMany finding (triesX dir tol pp qq rr ii jj kk ((v0.1 + 1), v0.2.1, v0.2.2)) dir z tol pp qq rr ii kk jj hM hB (by omega) (by omega) (by omega) (by omega) (by omega) (by omega) ht0 ht1 ht2) (cwV 5 hts (lw_V q305 q307 qs15 q80 q308) rfl rfl rfl cd_X0_tries ⟨Nat.le_of_ble_eq_true rfl, Nat.le_of_ble_eq_true rfl⟩) ⟨xPf_fb, x_recv hP hK, fun U hU hW => ⟨rfl, xPf_of hP hK hD hS hA hE hZ hU hW⟩⟩ rfl rfl hl.1 rfl (lv_room (Nat.le_of_ble_eq_true rfl)) dX0_looksAt_33 ⟨Nat.le_of_ble_eq_true rfl, Nat.le_of_ble_eq_true rfl⟩) hS (fun _ _ h => h) (fun _ h => h) (fun u tt H locs ht _ hq hP _ hkp hS => ?_)
  obtain rfl := hq
  have hP : va_P G vwCl (Xx t a K many settings isVoted lotsNow seen keyOne keyTwo ((triesX dir tol pp qq rr ii kk jj (triesX dir tol pp qq rr ii jj kk ((v0.1 + 1), v0.2.1, v0.2.2))).2.2) ((triesX dir tol pp qq rr ii kk jj (triesX dir tol pp qq rr ii jj kk ((v0.1 + 1), v0.2.1, v0.2.2))).1) ((triesX dir tol pp qq rr ii kk jj (triesX dir tol pp qq rr ii jj kk ((v0.1 + 1), v0.2.1, v0.2.2))).2.1) without trio takenStar takenAs takenSpot pairs starArms spotArms isTurn places byStar byFar one usedNow laidMany finding) H := by rw [← ht]; exact hP
  refine lv_aload_n hx hb dX0_looksAt_36 rfl (lv_at hl 0 rfl) ?_
  refine lv_aload_n hx hb dX0_looksAt_37 rfl (lv_at hl 1 rfl) ?_
  refine lv_aload_n hx hb dX0_looksAt_38 rfl (lv_at hl 0 rfl) ?_
  refine va_get (D := G) (ci := 0) (C := RX0) (T := TX0) (N := 32) hx hb hts in_X0 hown hK hP 0 xk_this rfl 15 (by decide) (hts _ q648) (fun _ h => h) rfl dX0_looksAt_39 ?_
  refine lv_iload_n hx hb dX0_looksAt_42 rfl (lv_at hl 3 rfl) ?_
  refine lv_iload_n hx hb dX0_looksAt_43 rfl (lv_at hl 2 rfl) ?_
  refine lv_iload hx hb dX0_looksAt_44 (lv_at hl 4 rfl) ?_
  refine va_callv (va_runV (As := [.ref z, .ref (a 22), .int (nI jj), .int (nI ii), .int (nI kk)]) (rest := []) ⟨hx, hb, hml, hown, hts⟩ (mx_tries l G t A a cs K many settings isVoted lotsNow seen keyOne keyTwo without trio takenStar takenAs takenSpot pairs starArms spotArms isTurn places byStar byFar one usedNow laidMany finding (triesX dir tol pp qq rr ii kk jj (triesX dir tol pp qq rr ii jj kk ((v0.1 + 1), v0.2.1, v0.2.2))) dir z tol pp qq rr jj ii kk hM hB (by omega) (by omega) (by omega) (by omega) (by omega) (by omega) ht0 ht1 ht2) (cwV 5 hts (lw_V q305 q307 qs15 q80 q308) rfl rfl rfl cd_X0_tries ⟨Nat.le_of_ble_eq_true rfl, Nat.le_of_ble_eq_true rfl⟩) ⟨xPf_fb, x_recv hP hK, fun U hU hW => ⟨rfl, xPf_of hP hK hD hS hA hE hZ hU hW⟩⟩ rfl rfl hl.1 rfl (lv_room (Nat.le_of_ble_eq_true rfl)) dX0_looksAt_46 ⟨Nat.le_of_ble_eq_true rfl, Nat.le_of_ble_eq_true rfl⟩) hS (fun _ _ h => h) (fun _ h => h) (fun u tt H locs ht _ hq hP _ hkp hS => ?_)
  obtain rfl := hq
  have hP : va_P G vwCl (Xx t a K many settings isVoted lotsNow seen keyOne keyTwo ((triesX dir tol pp qq rr jj ii kk (triesX dir tol pp qq rr ii kk jj (triesX dir tol pp qq rr ii jj kk ((v0.1 + 1), v0.2.1, v0.2.2)))).2.2) ((triesX dir tol pp qq rr jj ii kk (triesX dir tol pp qq rr ii kk jj (triesX dir tol pp qq rr ii jj kk ((v0.1 + 1), v0.2.1, v0.2.2)))).1) ((triesX dir tol pp qq rr jj ii kk (triesX dir tol pp qq rr ii kk jj (triesX dir tol pp qq rr ii jj kk ((v0.1 + 1), v0.2.1, v0.2.2)))).2.1) without trio takenStar takenAs takenSpot pairs starArms spotArms isTurn places byStar byFar one usedNow laidMany finding) H := by rw [← ht]; exact hP
  refine lv_aload_n hx hb dX0_looksAt_49 rfl (lv_at hl 0 rfl) ?_
  refine lv_aload_n hx hb dX0_looksAt_50 rfl (lv_at hl 1 rfl) ?_
  refine lv_aload_n hx hb dX0_looksAt_51 rfl (lv_at hl 0 rfl) ?_
  refine va_get (D := G) (ci := 0) (C := RX0) (T := TX0) (N := 32) hx hb hts in_X0 hown hK hP 0 xk_this rfl 15 (by decide) (hts _ q648) (fun _ h => h) rfl dX0_looksAt_52 ?_
  refine lv_iload_n hx hb dX0_looksAt_55 rfl (lv_at hl 3 rfl) ?_
  refine lv_iload hx hb dX0_looksAt_56 (lv_at hl 4 rfl) ?_
  refine lv_iload_n hx hb dX0_looksAt_58 rfl (lv_at hl 2 rfl) ?_
  refine va_callv (va_runV (As := [.ref z, .ref (a 22), .int (nI jj), .int (nI kk), .int (nI ii)]) (rest := []) ⟨hx, hb, hml, hown, hts⟩ (mx_tries l G t A a cs K many settings isVoted lotsNow seen keyOne keyTwo without trio takenStar takenAs takenSpot pairs starArms spotArms isTurn places byStar byFar one usedNow laidMany finding (triesX dir tol pp qq rr jj ii kk (triesX dir tol pp qq rr ii kk jj (triesX dir tol pp qq rr ii jj kk ((v0.1 + 1), v0.2.1, v0.2.2)))) dir z tol pp qq rr jj kk ii hM hB (by omega) (by omega) (by omega) (by omega) (by omega) (by omega) ht0 ht1 ht2) (cwV 5 hts (lw_V q305 q307 qs15 q80 q308) rfl rfl rfl cd_X0_tries ⟨Nat.le_of_ble_eq_true rfl, Nat.le_of_ble_eq_true rfl⟩) ⟨xPf_fb, x_recv hP hK, fun U hU hW => ⟨rfl, xPf_of hP hK hD hS hA hE hZ hU hW⟩⟩ rfl rfl hl.1 rfl (lv_room (Nat.le_of_ble_eq_true rfl)) dX0_looksAt_59 ⟨Nat.le_of_ble_eq_true rfl, Nat.le_of_ble_eq_true rfl⟩) hS (fun _ _ h => h) (fun _ h => h) (fun u tt H locs ht _ hq hP _ hkp hS => ?_)
  obtain rfl := hq
  have hP : va_P G vwCl (Xx t a K many settings isVoted lotsNow seen keyOne keyTwo ((triesX dir tol pp qq rr jj kk ii (triesX dir tol pp qq rr jj ii kk (triesX dir tol pp qq rr ii kk jj (triesX dir tol pp qq rr ii jj kk ((v0.1 + 1), v0.2.1, v0.2.2))))).2.2) ((triesX dir tol pp qq rr jj kk ii (triesX dir tol pp qq rr jj ii kk (triesX dir tol pp qq rr ii kk jj (triesX dir tol pp qq rr ii jj kk ((v0.1 + 1), v0.2.1, v0.2.2))))).1) ((triesX dir tol pp qq rr jj kk ii (triesX dir tol pp qq rr jj ii kk (triesX dir tol pp qq rr ii kk jj (triesX dir tol pp qq rr ii jj kk ((v0.1 + 1), v0.2.1, v0.2.2))))).2.1) without trio takenStar takenAs takenSpot pairs starArms spotArms isTurn places byStar byFar one usedNow laidMany finding) H := by rw [← ht]; exact hP
  refine lv_aload_n hx hb dX0_looksAt_62 rfl (lv_at hl 0 rfl) ?_
  refine lv_aload_n hx hb dX0_looksAt_63 rfl (lv_at hl 1 rfl) ?_
  refine lv_aload_n hx hb dX0_looksAt_64 rfl (lv_at hl 0 rfl) ?_
  refine va_get (D := G) (ci := 0) (C := RX0) (T := TX0) (N := 32) hx hb hts in_X0 hown hK hP 0 xk_this rfl 15 (by decide) (hts _ q648) (fun _ h => h) rfl dX0_looksAt_65 ?_
  refine lv_iload hx hb dX0_looksAt_68 (lv_at hl 4 rfl) ?_
  refine lv_iload_n hx hb dX0_looksAt_70 rfl (lv_at hl 2 rfl) ?_
  refine lv_iload_n hx hb dX0_looksAt_71 rfl (lv_at hl 3 rfl) ?_
  refine va_callv (va_runV (As := [.ref z, .ref (a 22), .int (nI kk), .int (nI ii), .int (nI jj)]) (rest := []) ⟨hx, hb, hml, hown, hts⟩ (mx_tries l G t A a cs K many settings isVoted lotsNow seen keyOne keyTwo without trio takenStar takenAs takenSpot pairs starArms spotArms isTurn places byStar byFar one usedNow laidMany finding (triesX dir tol pp qq rr jj kk ii (triesX dir tol pp qq rr jj ii kk (triesX dir tol pp qq rr ii kk jj (triesX dir tol pp qq rr ii jj kk ((v0.1 + 1), v0.2.1, v0.2.2))))) dir z tol pp qq rr kk ii jj hM hB (by omega) (by omega) (by omega) (by omega) (by omega) (by omega) ht0 ht1 ht2) (cwV 5 hts (lw_V q305 q307 qs15 q80 q308) rfl rfl rfl cd_X0_tries ⟨Nat.le_of_ble_eq_true rfl, Nat.le_of_ble_eq_true rfl⟩) ⟨xPf_fb, x_recv hP hK, fun U hU hW => ⟨rfl, xPf_of hP hK hD hS hA hE hZ hU hW⟩⟩ rfl rfl hl.1 rfl (lv_room (Nat.le_of_ble_eq_true rfl)) dX0_looksAt_72 ⟨Nat.le_of_ble_eq_true rfl, Nat.le_of_ble_eq_true rfl⟩) hS (fun _ _ h => h) (fun _ h => h) (fun u tt H locs ht _ hq hP _ hkp hS => ?_)
  obtain rfl := hq
  have hP : va_P G vwCl (Xx t a K many settings isVoted lotsNow seen keyOne keyTwo ((triesX dir tol pp qq rr kk ii jj (triesX dir tol pp qq rr jj kk ii (triesX dir tol pp qq rr jj ii kk (triesX dir tol pp qq rr ii kk jj (triesX dir tol pp qq rr ii jj kk ((v0.1 + 1), v0.2.1, v0.2.2)))))).2.2) ((triesX dir tol pp qq rr kk ii jj (triesX dir tol pp qq rr jj kk ii (triesX dir tol pp qq rr jj ii kk (triesX dir tol pp qq rr ii kk jj (triesX dir tol pp qq rr ii jj kk ((v0.1 + 1), v0.2.1, v0.2.2)))))).1) ((triesX dir tol pp qq rr kk ii jj (triesX dir tol pp qq rr jj kk ii (triesX dir tol pp qq rr jj ii kk (triesX dir tol pp qq rr ii kk jj (triesX dir tol pp qq rr ii jj kk ((v0.1 + 1), v0.2.1, v0.2.2)))))).2.1) without trio takenStar takenAs takenSpot pairs starArms spotArms isTurn places byStar byFar one usedNow laidMany finding) H := by rw [← ht]; exact hP
  refine lv_aload_n hx hb dX0_looksAt_75 rfl (lv_at hl 0 rfl) ?_
  refine lv_aload_n hx hb dX0_looksAt_76 rfl (lv_at hl 1 rfl) ?_
  refine lv_aload_n hx hb dX0_looksAt_77 rfl (lv_at hl 0 rfl) ?_
  refine va_get (D := G) (ci := 0) (C := RX0) (T := TX0) (N := 32) hx hb hts in_X0 hown hK hP 0 xk_this rfl 15 (by decide) (hts _ q648) (fun _ h => h) rfl dX0_looksAt_78 ?_
  refine lv_iload hx hb dX0_looksAt_81 (lv_at hl 4 rfl) ?_
  refine lv_iload_n hx hb dX0_looksAt_83 rfl (lv_at hl 3 rfl) ?_
  refine lv_iload_n hx hb dX0_looksAt_84 rfl (lv_at hl 2 rfl) ?_
  refine va_callv (va_runV (As := [.ref z, .ref (a 22), .int (nI kk), .int (nI jj), .int (nI ii)]) (rest := []) ⟨hx, hb, hml, hown, hts⟩ (mx_tries l G t A a cs K many settings isVoted lotsNow seen keyOne keyTwo without trio takenStar takenAs takenSpot pairs starArms spotArms isTurn places byStar byFar one usedNow laidMany finding (triesX dir tol pp qq rr kk ii jj (triesX dir tol pp qq rr jj kk ii (triesX dir tol pp qq rr jj ii kk (triesX dir tol pp qq rr ii kk jj (triesX dir tol pp qq rr ii jj kk ((v0.1 + 1), v0.2.1, v0.2.2)))))) dir z tol pp qq rr kk jj ii hM hB (by omega) (by omega) (by omega) (by omega) (by omega) (by omega) ht0 ht1 ht2) (cwV 5 hts (lw_V q305 q307 qs15 q80 q308) rfl rfl rfl cd_X0_tries ⟨Nat.le_of_ble_eq_true rfl, Nat.le_of_ble_eq_true rfl⟩) ⟨xPf_fb, x_recv hP hK, fun U hU hW => ⟨rfl, xPf_of hP hK hD hS hA hE hZ hU hW⟩⟩ rfl rfl hl.1 rfl (lv_room (Nat.le_of_ble_eq_true rfl)) dX0_looksAt_85 ⟨Nat.le_of_ble_eq_true rfl, Nat.le_of_ble_eq_true rfl⟩) hS (fun _ _ h => h) (fun _ h => h) (fun u tt H locs ht _ hq hP _ hkp hS => ?_)
  obtain rfl := hq
  have hP : va_P G vwCl (Xx t a K many settings isVoted lotsNow seen keyOne keyTwo ((triesX dir tol pp qq rr kk jj ii (triesX dir tol pp qq rr kk ii jj (triesX dir tol pp qq rr jj kk ii (triesX dir tol pp qq rr jj ii kk (triesX dir tol pp qq rr ii kk jj (triesX dir tol pp qq rr ii jj kk ((v0.1 + 1), v0.2.1, v0.2.2))))))).2.2) ((triesX dir tol pp qq rr kk jj ii (triesX dir tol pp qq rr kk ii jj (triesX dir tol pp qq rr jj kk ii (triesX dir tol pp qq rr jj ii kk (triesX dir tol pp qq rr ii kk jj (triesX dir tol pp qq rr ii jj kk ((v0.1 + 1), v0.2.1, v0.2.2))))))).1) ((triesX dir tol pp qq rr kk jj ii (triesX dir tol pp qq rr kk ii jj (triesX dir tol pp qq rr jj kk ii (triesX dir tol pp qq rr jj ii kk (triesX dir tol pp qq rr ii kk jj (triesX dir tol pp qq rr ii jj kk ((v0.1 + 1), v0.2.1, v0.2.2))))))).2.1) without trio takenStar takenAs takenSpot pairs starArms spotArms isTurn places byStar byFar one usedNow laidMany finding) H := by rw [← ht]; exact hP
  have hP : va_P G vwCl (Xx t a K many settings isVoted lotsNow seen keyOne keyTwo ((sixX dir tol pp qq rr ii jj kk (v0.1 + 1, v0.2.1, v0.2.2)).2.2) ((sixX dir tol pp qq rr ii jj kk (v0.1 + 1, v0.2.1, v0.2.2)).1) ((sixX dir tol pp qq rr ii jj kk (v0.1 + 1, v0.2.1, v0.2.2)).2.1) without trio takenStar takenAs takenSpot pairs starArms spotArms isTurn places byStar byFar one usedNow laidMany finding) H := by (unfold sixX; exact hP)
  exact W.vret hx hb hr (fun tt ht _ => ⟨⟨(sixX dir tol pp qq rr ii jj kk (v0.1 + 1, v0.2.1, v0.2.2)), rfl, rfl, (show va_P G vwCl ((fun (uv : VS) => Xx t a K many settings isVoted lotsNow seen keyOne keyTwo uv.2.2 uv.1 uv.2.1 without trio takenStar takenAs takenSpot pairs starArms spotArms isTurn places byStar byFar one usedNow laidMany finding) (sixX dir tol pp qq rr ii jj kk (v0.1 + 1, v0.2.1, v0.2.2))) tt.heap from by rw [ht]; exact hP)⟩, hS.F ht⟩) hS.2.2 dX0_looksAt_88 hlk

set_option maxHeartbeats 4000000 in
theorem lx_looks3 {p : Program} {l : Launch} {e : Env} {s : State} {m : MethodId} {args : Array Value} {below : List Frame} {meth : Method} {c : Code} {Q : State → Prop} {H0 : Heap} (G : va_G) (t : Nat → ClassId) (A : Nat → Prop) (a : Nat → Nat) (cs : Nat → ClassId) (K : XK) (many : (Nat → Int32)) (settings : (Nat → Int32)) (isVoted : Int32) (lotsNow : Int32) (seen : (Nat → Int32)) (keyOne : (Nat → Int32)) (without : Int32) (trio : (Nat → Int32)) (takenStar : (Nat → Int32)) (takenAs : (Nat → Int32)) (takenSpot : (Nat → Int32)) (pairs : Int32) (starArms : (Nat → Int64)) (spotArms : (Nat → Int64)) (isTurn : Int32) (places : (Nat → Int32)) (byStar : (Nat → Int32)) (byFar : (Nat → Int32)) (one : (Nat → Int64)) (usedNow : (Nat → Int32)) (laidMany : (Nat → Int32)) (finding : Int32) (v0 : VS) (dir : (Nat → Int32)) (z : Nat) (tol : Int32) (pp : Nat) (qq : Nat) (rr : Nat) (ii : Nat) (jj : Nat) (hM : Mok many) (hB : BodOk K dir many) (hb0 : ¬ settings 0 = 0) (h1 : pp < nK many 1) (h2 : qq < nK many 1) (h3 : rr < nK many 1) (ht0 : trio 0 = nI pp) (ht1 : trio 1 = nI qq) (ht2 : trio 2 = nI rr) (hk0 : keyOne 0 = keyF dir (settings 0) (36 * 1 + 3 * pp) (36 * 1 + 3 * qq) (36 * 1 + 3 * rr) 0) (hk1 : keyOne 1 = keyF dir (settings 0) (36 * 1 + 3 * pp) (36 * 1 + 3 * qq) (36 * 1 + 3 * rr) 1) (hk2 : keyOne 2 = keyF dir (settings 0) (36 * 1 + 3 * pp) (36 * 1 + 3 * qq) (36 * 1 + 3 * rr) 2) (h0 : nK many 0 ≤ 12) (hi2 : ii < jj) (hj2 : jj < (nK many 0)) (hx : p.tables.exec = Jvm.exec) (hb : c.code = cX0_holdsAgainst) (hml : c.maxLocals = 5) (hown : s.vm.findClass RX0 = some m.cls) (hts : ∀ w ∈ lw_all, w.before args s = true) (hK : va_K G vwCl (Tys t) s) (hD : XD A a K.L) (hA : ∀ q, H0.size ≤ q → A q) (hE : xE A a cs s H0) (hZ : xl_C z (cs 0) [.int tol] A H0) : ∀ (n i : Nat), 0 ≤ i → i + n = ((nK many 0) - (jj + 1)) → ∀ (keyTwo : (Nat → Int32)) (H : Heap) (locs : List Loc) (ls : Array Slot), va_P G vwCl (Xx t a K many settings isVoted lotsNow seen keyOne keyTwo ((fr (fun k s => meetsX dir (settings 0) tol pp qq rr ii jj k s) (jj + 1) i v0).2.2) ((fr (fun k s => meetsX dir (settings 0) tol pp qq rr ii jj k s) (jj + 1) i v0).1) ((fr (fun k s => meetsX dir (settings 0) tol pp qq rr ii jj k s) (jj + 1) i v0).2.1) without trio takenStar takenAs takenSpot pairs starArms spotArms isTurn places byStar byFar one usedNow laidMany finding) H → va_S A H0 H locs → lv_has ls 5 [(0, .ref (a 0)), (1, .ref z), (2, .int (nI ii)), (3, .int (nI jj)), (4, .int (nI (jj + 1 + i)))] → (∀ (keyTwo : (Nat → Int32)) (H : Heap) (locs : List Loc) (ls : Array Slot), va_P G vwCl (Xx t a K many settings isVoted lotsNow seen keyOne keyTwo ((fr (fun k s => meetsX dir (settings 0) tol pp qq rr ii jj k s) (jj + 1) ((nK many 0) - (jj + 1)) v0).2.2) ((fr (fun k s => meetsX dir (settings 0) tol pp qq rr ii jj k s) (jj + 1) ((nK many 0) - (jj + 1)) v0).1) ((fr (fun k s => meetsX dir (settings 0) tol pp qq rr ii jj k s) (jj + 1) ((nK many 0) - (jj + 1)) v0).2.1) without trio takenStar takenAs takenSpot pairs starArms spotArms isTurn places byStar byFar one usedNow laidMany finding) H → va_S A H0 H locs → lv_has ls 5 [(0, .ref (a 0)), (1, .ref z), (2, .int (nI ii)), (3, .int (nI jj)), (4, .int (nI (jj + 1 + ((nK many 0) - (jj + 1)))))] → W p l e (rm_ 0 6 0 0) s m args below meth c H locs 0 0 Q (F0 m 115 ls [])) → W p l e (rm_ 0 6 0 0) s m args below meth c H locs 0 0 Q (F0 m 58 ls []) := by
  intro n
  induction n with
  | zero =>
    intro i hlo hi keyTwo H locs ls hP hS hl hex
    have hie : i = ((nK many 0) - (jj + 1)) := by omega
    subst hie
    refine lv_iload hx hb dX0_holdsAgainst_58 (lv_at hl 4 rfl) ?_
    refine lv_aload_n hx hb dX0_holdsAgainst_60 rfl (lv_at hl 0 rfl) ?_
    refine va_get (D := G) (ci := 0) (C := RX0) (T := TX0) (N := 32) hx hb hts in_X0 hown hK hP 0 xk_this rfl 4 (by decide) (hts _ q637) (fun _ h => h) rfl dX0_holdsAgainst_61 ?_
    refine lv_iconst (v := 0) hx hb dX0_holdsAgainst_64 (by decide) ?_
    refine r_iald hx hb hK hP 8 0 xk_many rfl (f := many) 0 (nI_q 0) (by decide) (by decide) dX0_holdsAgainst_65 ?_
    refine rn_ge (tgt := 115) hx hb dX0_holdsAgainst_66 (by decide) rfl (hM 0 (by omega)).1 (by omega) (by omega) (fun c_1 => ?_) (fun c_1 => absurd c_1 (by omega))
    exact hex _ _ _ _ hP hS (lv_sub hl [0, 1, 2, 3, 4] rfl)
  | succ n ih =>
    intro i hlo hi keyTwo H locs ls hP hS hl hex
    have hlt : i < ((nK many 0) - (jj + 1)) := by omega
    refine lv_iload hx hb dX0_holdsAgainst_58 (lv_at hl 4 rfl) ?_
    refine lv_aload_n hx hb dX0_holdsAgainst_60 rfl (lv_at hl 0 rfl) ?_
    refine va_get (D := G) (ci := 0) (C := RX0) (T := TX0) (N := 32) hx hb hts in_X0 hown hK hP 0 xk_this rfl 4 (by decide) (hts _ q637) (fun _ h => h) rfl dX0_holdsAgainst_61 ?_
    refine lv_iconst (v := 0) hx hb dX0_holdsAgainst_64 (by decide) ?_
    refine r_iald hx hb hK hP 8 0 xk_many rfl (f := many) 0 (nI_q 0) (by decide) (by decide) dX0_holdsAgainst_65 ?_
    refine rn_ge (tgt := 115) hx hb dX0_holdsAgainst_66 (by decide) rfl (hM 0 (by omega)).1 (by omega) (by omega) (fun c_1 => absurd c_1 (by omega)) (fun c_1 => ?_)
    refine lv_aload_n hx hb dX0_holdsAgainst_69 rfl (lv_at hl 0 rfl) ?_
    refine lv_iconst (v := 0) hx hb dX0_holdsAgainst_70 (by decide) ?_
    refine lv_iload_n hx hb dX0_holdsAgainst_71 rfl (lv_at hl 2 rfl) ?_
    refine lv_iload_n hx hb dX0_holdsAgainst_72 rfl (lv_at hl 3 rfl) ?_
    refine lv_iload hx hb dX0_holdsAgainst_73 (lv_at hl 4 rfl) ?_
    refine lv_aload_n hx hb dX0_holdsAgainst_75 rfl (lv_at hl 0 rfl) ?_
    refine va_get (D := G) (ci := 0) (C := RX0) (T := TX0) (N := 32) hx hb hts in_X0 hown hK hP 0 xk_this rfl 10 (by decide) (hts _ q643) (fun _ h => h) rfl dX0_holdsAgainst_76 ?_
    refine r_stk (st' := [.ref (a 12), .int (nI (jj + 1 + i)), .int (nI jj), .int (nI ii), .int (nI 0), .ref (a 0)]) (lc_k (lc_k (lc_k (lc_k (lc_i (nI_q 0) rfl))))) ?_
    refine va_callv (va_runV (As := [.int (nI 0), .int (nI ii), .int (nI jj), .int (nI (jj + 1 + i)), .ref (a 12)]) (rest := []) ⟨hx, hb, hml, hown, hts⟩ (mx_findsKey_keyTwo l G t A a cs K many settings isVoted lotsNow seen keyOne keyTwo ((fr (fun k s => meetsX dir (settings 0) tol pp qq rr ii jj k s) (jj + 1) i v0).2.2) ((fr (fun k s => meetsX dir (settings 0) tol pp qq rr ii jj k s) (jj + 1) i v0).1) ((fr (fun k s => meetsX dir (settings 0) tol pp qq rr ii jj k s) (jj + 1) i v0).2.1) without trio takenStar takenAs takenSpot pairs starArms spotArms isTurn places byStar byFar one usedNow laidMany finding dir 0 ii jj (jj + 1 + i) hM hB (by omega) (by omega) (by omega) (by omega) hb0) (cwV 5 hts (lw_V q260 q262 qs8 q80 q263) rfl rfl rfl cd_X0_findsKey ⟨Nat.le_of_ble_eq_true rfl, Nat.le_of_ble_eq_true rfl⟩) ⟨xPr_fb, x_recv hP hK, fun U hU hW => ⟨rfl, xPr_of hP hK hD hS hA hE hU hW⟩⟩ rfl rfl hl.1 rfl (lv_room (Nat.le_of_ble_eq_true rfl)) dX0_holdsAgainst_79 ⟨Nat.le_of_ble_eq_true rfl, Nat.le_of_ble_eq_true rfl⟩) hS (fun _ _ h => h) (fun _ h => h) (fun u tt H locs ht _ hq hP _ hkp hS => ?_)
    obtain rfl := hq
    have hP : va_P G vwCl (Xx t a K many settings isVoted lotsNow seen keyOne (keyW keyTwo (keyF dir (settings 0) (36 * 0 + 3 * ii) (36 * 0 + 3 * jj) (36 * 0 + 3 * (jj + 1 + i)) 0) (keyF dir (settings 0) (36 * 0 + 3 * ii) (36 * 0 + 3 * jj) (36 * 0 + 3 * (jj + 1 + i)) 1) (keyF dir (settings 0) (36 * 0 + 3 * ii) (36 * 0 + 3 * jj) (36 * 0 + 3 * (jj + 1 + i)) 2)) ((fr (fun k s => meetsX dir (settings 0) tol pp qq rr ii jj k s) (jj + 1) i v0).2.2) ((fr (fun k s => meetsX dir (settings 0) tol pp qq rr ii jj k s) (jj + 1) i v0).1) ((fr (fun k s => meetsX dir (settings 0) tol pp qq rr ii jj k s) (jj + 1) i v0).2.1) without trio takenStar takenAs takenSpot pairs starArms spotArms isTurn places byStar byFar one usedNow laidMany finding) H := by rw [← ht]; exact hP
    refine lv_aload_n hx hb dX0_holdsAgainst_82 rfl (lv_at hl 0 rfl) ?_
    refine va_get (D := G) (ci := 0) (C := RX0) (T := TX0) (N := 32) hx hb hts in_X0 hown hK hP 0 xk_this rfl 1 (by decide) (hts _ q634) (fun _ h => h) rfl dX0_holdsAgainst_83 ?_
    refine lv_aload_n hx hb dX0_holdsAgainst_86 rfl (lv_at hl 0 rfl) ?_
    refine va_get (D := G) (ci := 0) (C := RX0) (T := TX0) (N := 32) hx hb hts in_X0 hown hK hP 0 xk_this rfl 9 (by decide) (hts _ q642) (fun _ h => h) rfl dX0_holdsAgainst_87 ?_
    refine lv_aload_n hx hb dX0_holdsAgainst_90 rfl (lv_at hl 0 rfl) ?_
    refine va_get (D := G) (ci := 0) (C := RX0) (T := TX0) (N := 32) hx hb hts in_X0 hown hK hP 0 xk_this rfl 10 (by decide) (hts _ q643) (fun _ h => h) rfl dX0_holdsAgainst_91 ?_
    refine vp_callSi (W.runS (As := [.ref (a 63), .ref (a 11), .ref (a 12)]) (rest := []) ⟨hx, hb, hml, hown, hts⟩ (mx_areAll l G t A a cs K many settings isVoted lotsNow seen keyOne (keyW keyTwo (keyF dir (settings 0) (36 * 0 + 3 * ii) (36 * 0 + 3 * jj) (36 * 0 + 3 * (jj + 1 + i)) 0) (keyF dir (settings 0) (36 * 0 + 3 * ii) (36 * 0 + 3 * jj) (36 * 0 + 3 * (jj + 1 + i)) 1) (keyF dir (settings 0) (36 * 0 + 3 * ii) (36 * 0 + 3 * jj) (36 * 0 + 3 * (jj + 1 + i)) 2)) ((fr (fun k s => meetsX dir (settings 0) tol pp qq rr ii jj k s) (jj + 1) i v0).2.2) ((fr (fun k s => meetsX dir (settings 0) tol pp qq rr ii jj k s) (jj + 1) i v0).1) ((fr (fun k s => meetsX dir (settings 0) tol pp qq rr ii jj k s) (jj + 1) i v0).2.1) without trio takenStar takenAs takenSpot pairs starArms spotArms isTurn places byStar byFar one usedNow laidMany finding dir) (va_cwS 3 hts (lw_S q294 q295 q80 q296) rfl rfl rfl cd_X0_areAll.2 ⟨Nat.le_of_ble_eq_true rfl, Nat.le_of_ble_eq_true rfl⟩) ⟨xPr_fb, fun U hU hW => ⟨rfl, xPr_of hP hK hD hS hA hE hU hW⟩⟩ rfl rfl hl.1 rfl (lv_room (Nat.le_of_ble_eq_true rfl)) dX0_holdsAgainst_94 ⟨Nat.le_of_ble_eq_true rfl, Nat.le_of_ble_eq_true rfl⟩) (fun r hr => ?_)
    subst hr
    refine r_top (y := b2i (nerX dir (settings 0) pp qq rr ii jj (jj + 1 + i))) (b2i_c (allP_W hk0 hk1 hk2)) ?_
    refine rb_eq (tgt := 109) hx hb dX0_holdsAgainst_97 (by decide) (fun c_2 => ?_) (fun c_2 => ?_)
    · refine lv_iinc (v := nI (jj + 1 + i + 1)) (lv' := [(4, .int (nI (jj + 1 + i + 1))), (0, .ref (a 0)), (1, .ref z), (2, .int (nI ii)), (3, .int (nI jj))]) hx hb dX0_holdsAgainst_109 hl (k := 4) rfl (iinc_nI rfl) (by decide) rfl (fun ls hl => ?_)
      refine lv_goto (tgt := 58) hx hb dX0_holdsAgainst_112 (by decide) ?_
      have e4 : meetsX dir (settings 0) tol pp qq rr ii jj (jj + 1 + i) (fr (fun k s => meetsX dir (settings 0) tol pp qq rr ii jj k s) (jj + 1) i v0) = (fr (fun k s => meetsX dir (settings 0) tol pp qq rr ii jj k s) (jj + 1) i v0) := by unfold meetsX; (first | rw [if_pos c_2] | rw [if_neg c_2])
      have hP : va_P G vwCl (Xx t a K many settings isVoted lotsNow seen keyOne (keyW keyTwo (keyF dir (settings 0) (36 * 0 + 3 * ii) (36 * 0 + 3 * jj) (36 * 0 + 3 * (jj + 1 + i)) 0) (keyF dir (settings 0) (36 * 0 + 3 * ii) (36 * 0 + 3 * jj) (36 * 0 + 3 * (jj + 1 + i)) 1) (keyF dir (settings 0) (36 * 0 + 3 * ii) (36 * 0 + 3 * jj) (36 * 0 + 3 * (jj + 1 + i)) 2)) ((fr (fun k s => meetsX dir (settings 0) tol pp qq rr ii jj k s) (jj + 1) (i + 1) v0).2.2) ((fr (fun k s => meetsX dir (settings 0) tol pp qq rr ii jj k s) (jj + 1) (i + 1) v0).1) ((fr (fun k s => meetsX dir (settings 0) tol pp qq rr ii jj k s) (jj + 1) (i + 1) v0).2.1) without trio takenStar takenAs takenSpot pairs starArms spotArms isTurn places byStar byFar one usedNow laidMany finding) H := by rw [fr_s]; rw [e4]; exact hP
      exact ih (i + 1) (by omega) (by omega) _ _ _ _ hP hS (lv_sub hl [1, 2, 3, 4, 0] rfl) hex
    · refine lv_aload_n hx hb dX0_holdsAgainst_100 rfl (lv_at hl 0 rfl) ?_
      refine lv_aload_n hx hb dX0_holdsAgainst_101 rfl (lv_at hl 1 rfl) ?_
      refine lv_iload_n hx hb dX0_holdsAgainst_102 rfl (lv_at hl 2 rfl) ?_
      refine lv_iload_n hx hb dX0_holdsAgainst_103 rfl (lv_at hl 3 rfl) ?_
      refine lv_iload hx hb dX0_holdsAgainst_104 (lv_at hl 4 rfl) ?_
      refine va_callv (va_runV (As := [.ref z, .int (nI ii), .int (nI jj), .int (nI (jj + 1 + i))]) (rest := []) ⟨hx, hb, hml, hown, hts⟩ (mx_looksAt l G t A a cs K many settings isVoted lotsNow seen keyOne (keyW keyTwo (keyF dir (settings 0) (36 * 0 + 3 * ii) (36 * 0 + 3 * jj) (36 * 0 + 3 * (jj + 1 + i)) 0) (keyF dir (settings 0) (36 * 0 + 3 * ii) (36 * 0 + 3 * jj) (36 * 0 + 3 * (jj + 1 + i)) 1) (keyF dir (settings 0) (36 * 0 + 3 * ii) (36 * 0 + 3 * jj) (36 * 0 + 3 * (jj + 1 + i)) 2)) without trio takenStar takenAs takenSpot pairs starArms spotArms isTurn places byStar byFar one usedNow laidMany finding (fr (fun k s => meetsX dir (settings 0) tol pp qq rr ii jj k s) (jj + 1) i v0) dir z tol pp qq rr ii jj (jj + 1 + i) hM hB (by omega) (by omega) (by omega) (by omega) (by omega) (by omega) ht0 ht1 ht2) (cwV 4 hts (lw_V q301 q303 qs14 q80 q304) rfl rfl rfl cd_X0_looksAt ⟨Nat.le_of_ble_eq_true rfl, Nat.le_of_ble_eq_true rfl⟩) ⟨xPf_fb, x_recv hP hK, fun U hU hW => ⟨rfl, xPf_of hP hK hD hS hA hE hZ hU hW⟩⟩ rfl rfl hl.1 rfl (lv_room (Nat.le_of_ble_eq_true rfl)) dX0_holdsAgainst_106 ⟨Nat.le_of_ble_eq_true rfl, Nat.le_of_ble_eq_true rfl⟩) hS (fun _ _ h => h) (fun _ h => h) (fun u tt H locs ht _ hq hP _ hkp hS => ?_)
      obtain rfl := hq
      have hP : va_P G vwCl (Xx t a K many settings isVoted lotsNow seen keyOne (keyW keyTwo (keyF dir (settings 0) (36 * 0 + 3 * ii) (36 * 0 + 3 * jj) (36 * 0 + 3 * (jj + 1 + i)) 0) (keyF dir (settings 0) (36 * 0 + 3 * ii) (36 * 0 + 3 * jj) (36 * 0 + 3 * (jj + 1 + i)) 1) (keyF dir (settings 0) (36 * 0 + 3 * ii) (36 * 0 + 3 * jj) (36 * 0 + 3 * (jj + 1 + i)) 2)) ((sixX dir tol pp qq rr ii jj (jj + 1 + i) ((fr (fun k s => meetsX dir (settings 0) tol pp qq rr ii jj k s) (jj + 1) i v0).1 + 1, (fr (fun k s => meetsX dir (settings 0) tol pp qq rr ii jj k s) (jj + 1) i v0).2.1, (fr (fun k s => meetsX dir (settings 0) tol pp qq rr ii jj k s) (jj + 1) i v0).2.2)).2.2) ((sixX dir tol pp qq rr ii jj (jj + 1 + i) ((fr (fun k s => meetsX dir (settings 0) tol pp qq rr ii jj k s) (jj + 1) i v0).1 + 1, (fr (fun k s => meetsX dir (settings 0) tol pp qq rr ii jj k s) (jj + 1) i v0).2.1, (fr (fun k s => meetsX dir (settings 0) tol pp qq rr ii jj k s) (jj + 1) i v0).2.2)).1) ((sixX dir tol pp qq rr ii jj (jj + 1 + i) ((fr (fun k s => meetsX dir (settings 0) tol pp qq rr ii jj k s) (jj + 1) i v0).1 + 1, (fr (fun k s => meetsX dir (settings 0) tol pp qq rr ii jj k s) (jj + 1) i v0).2.1, (fr (fun k s => meetsX dir (settings 0) tol pp qq rr ii jj k s) (jj + 1) i v0).2.2)).2.1) without trio takenStar takenAs takenSpot pairs starArms spotArms isTurn places byStar byFar one usedNow laidMany finding) H := by rw [← ht]; exact hP
      refine lv_iinc (v := nI (jj + 1 + i + 1)) (lv' := [(4, .int (nI (jj + 1 + i + 1))), (0, .ref (a 0)), (1, .ref z), (2, .int (nI ii)), (3, .int (nI jj))]) hx hb dX0_holdsAgainst_109 hl (k := 4) rfl (iinc_nI rfl) (by decide) rfl (fun ls hl => ?_)
      refine lv_goto (tgt := 58) hx hb dX0_holdsAgainst_112 (by decide) ?_
      have e4 : meetsX dir (settings 0) tol pp qq rr ii jj (jj + 1 + i) (fr (fun k s => meetsX dir (settings 0) tol pp qq rr ii jj k s) (jj + 1) i v0) = (sixX dir tol pp qq rr ii jj (jj + 1 + i) ((fr (fun k s => meetsX dir (settings 0) tol pp qq rr ii jj k s) (jj + 1) i v0).1 + 1, (fr (fun k s => meetsX dir (settings 0) tol pp qq rr ii jj k s) (jj + 1) i v0).2.1, (fr (fun k s => meetsX dir (settings 0) tol pp qq rr ii jj k s) (jj + 1) i v0).2.2)) := by unfold meetsX; (first | rw [if_pos c_2] | rw [if_neg c_2])
      have hP : va_P G vwCl (Xx t a K many settings isVoted lotsNow seen keyOne (keyW keyTwo (keyF dir (settings 0) (36 * 0 + 3 * ii) (36 * 0 + 3 * jj) (36 * 0 + 3 * (jj + 1 + i)) 0) (keyF dir (settings 0) (36 * 0 + 3 * ii) (36 * 0 + 3 * jj) (36 * 0 + 3 * (jj + 1 + i)) 1) (keyF dir (settings 0) (36 * 0 + 3 * ii) (36 * 0 + 3 * jj) (36 * 0 + 3 * (jj + 1 + i)) 2)) ((fr (fun k s => meetsX dir (settings 0) tol pp qq rr ii jj k s) (jj + 1) (i + 1) v0).2.2) ((fr (fun k s => meetsX dir (settings 0) tol pp qq rr ii jj k s) (jj + 1) (i + 1) v0).1) ((fr (fun k s => meetsX dir (settings 0) tol pp qq rr ii jj k s) (jj + 1) (i + 1) v0).2.1) without trio takenStar takenAs takenSpot pairs starArms spotArms isTurn places byStar byFar one usedNow laidMany finding) H := by rw [fr_s]; rw [e4]; exact hP
      exact ih (i + 1) (by omega) (by omega) _ _ _ _ hP hS (lv_sub hl [1, 2, 3, 4, 0] rfl) hex

set_option maxHeartbeats 4000000 in
theorem lx_looks2 {p : Program} {l : Launch} {e : Env} {s : State} {m : MethodId} {args : Array Value} {below : List Frame} {meth : Method} {c : Code} {Q : State → Prop} {H0 : Heap} (G : va_G) (t : Nat → ClassId) (A : Nat → Prop) (a : Nat → Nat) (cs : Nat → ClassId) (K : XK) (many : (Nat → Int32)) (settings : (Nat → Int32)) (isVoted : Int32) (lotsNow : Int32) (seen : (Nat → Int32)) (keyOne : (Nat → Int32)) (without : Int32) (trio : (Nat → Int32)) (takenStar : (Nat → Int32)) (takenAs : (Nat → Int32)) (takenSpot : (Nat → Int32)) (pairs : Int32) (starArms : (Nat → Int64)) (spotArms : (Nat → Int64)) (isTurn : Int32) (places : (Nat → Int32)) (byStar : (Nat → Int32)) (byFar : (Nat → Int32)) (one : (Nat → Int64)) (usedNow : (Nat → Int32)) (laidMany : (Nat → Int32)) (finding : Int32) (v0 : VS) (dir : (Nat → Int32)) (z : Nat) (tol : Int32) (pp : Nat) (qq : Nat) (rr : Nat) (ii : Nat) (hM : Mok many) (hB : BodOk K dir many) (hb0 : ¬ settings 0 = 0) (h1 : pp < nK many 1) (h2 : qq < nK many 1) (h3 : rr < nK many 1) (ht0 : trio 0 = nI pp) (ht1 : trio 1 = nI qq) (ht2 : trio 2 = nI rr) (hk0 : keyOne 0 = keyF dir (settings 0) (36 * 1 + 3 * pp) (36 * 1 + 3 * qq) (36 * 1 + 3 * rr) 0) (hk1 : keyOne 1 = keyF dir (settings 0) (36 * 1 + 3 * pp) (36 * 1 + 3 * qq) (36 * 1 + 3 * rr) 1) (hk2 : keyOne 2 = keyF dir (settings 0) (36 * 1 + 3 * pp) (36 * 1 + 3 * qq) (36 * 1 + 3 * rr) 2) (h0 : nK many 0 ≤ 12) (hi2 : ii < (nK many 0)) (hx : p.tables.exec = Jvm.exec) (hb : c.code = cX0_holdsAgainst) (hml : c.maxLocals = 5) (hown : s.vm.findClass RX0 = some m.cls) (hts : ∀ w ∈ lw_all, w.before args s = true) (hK : va_K G vwCl (Tys t) s) (hD : XD A a K.L) (hA : ∀ q, H0.size ≤ q → A q) (hE : xE A a cs s H0) (hZ : xl_C z (cs 0) [.int tol] A H0) : ∀ (n i : Nat), 0 ≤ i → i + n = ((nK many 0) - (ii + 1)) → ∀ (keyTwo : (Nat → Int32)) (H : Heap) (locs : List Loc) (ls : Array Slot), va_P G vwCl (Xx t a K many settings isVoted lotsNow seen keyOne keyTwo ((fr (fun j s => looksX3 dir (settings 0) tol (nK many 0) pp qq rr ii j s) (ii + 1) i v0).2.2) ((fr (fun j s => looksX3 dir (settings 0) tol (nK many 0) pp qq rr ii j s) (ii + 1) i v0).1) ((fr (fun j s => looksX3 dir (settings 0) tol (nK many 0) pp qq rr ii j s) (ii + 1) i v0).2.1) without trio takenStar takenAs takenSpot pairs starArms spotArms isTurn places byStar byFar one usedNow laidMany finding) H → va_S A H0 H locs → lv_has ls 5 [(0, .ref (a 0)), (1, .ref z), (2, .int (nI ii)), (3, .int (nI (ii + 1 + i)))] → (∀ (keyTwo : (Nat → Int32)) (H : Heap) (locs : List Loc) (ls : Array Slot), va_P G vwCl (Xx t a K many settings isVoted lotsNow seen keyOne keyTwo ((fr (fun j s => looksX3 dir (settings 0) tol (nK many 0) pp qq rr ii j s) (ii + 1) ((nK many 0) - (ii + 1)) v0).2.2) ((fr (fun j s => looksX3 dir (settings 0) tol (nK many 0) pp qq rr ii j s) (ii + 1) ((nK many 0) - (ii + 1)) v0).1) ((fr (fun j s => looksX3 dir (settings 0) tol (nK many 0) pp qq rr ii j s) (ii + 1) ((nK many 0) - (ii + 1)) v0).2.1) without trio takenStar takenAs takenSpot pairs starArms spotArms isTurn places byStar byFar one usedNow laidMany finding) H → va_S A H0 H locs → lv_has ls 5 [(0, .ref (a 0)), (1, .ref z), (2, .int (nI ii)), (3, .int (nI (ii + 1 + ((nK many 0) - (ii + 1)))))] → W p l e (rm_ 0 6 0 0) s m args below meth c H locs 0 0 Q (F0 m 121 ls [])) → W p l e (rm_ 0 6 0 0) s m args below meth c H locs 0 0 Q (F0 m 43 ls []) := by
  intro n
  induction n with
  | zero =>
    intro i hlo hi keyTwo H locs ls hP hS hl hex
    have hie : i = ((nK many 0) - (ii + 1)) := by omega
    subst hie
    refine lv_iload_n hx hb dX0_holdsAgainst_43 rfl (lv_at hl 3 rfl) ?_
    refine lv_aload_n hx hb dX0_holdsAgainst_44 rfl (lv_at hl 0 rfl) ?_
    refine va_get (D := G) (ci := 0) (C := RX0) (T := TX0) (N := 32) hx hb hts in_X0 hown hK hP 0 xk_this rfl 4 (by decide) (hts _ q637) (fun _ h => h) rfl dX0_holdsAgainst_45 ?_
    refine lv_iconst (v := 0) hx hb dX0_holdsAgainst_48 (by decide) ?_
    refine r_iald hx hb hK hP 8 0 xk_many rfl (f := many) 0 (nI_q 0) (by decide) (by decide) dX0_holdsAgainst_49 ?_
    refine rn_ge (tgt := 121) hx hb dX0_holdsAgainst_50 (by decide) rfl (hM 0 (by omega)).1 (by omega) (by omega) (fun c_1 => ?_) (fun c_1 => absurd c_1 (by omega))
    exact hex _ _ _ _ hP hS (lv_sub hl [0, 1, 2, 3] rfl)
  | succ n ih =>
    intro i hlo hi keyTwo H locs ls hP hS hl hex
    have hlt : i < ((nK many 0) - (ii + 1)) := by omega
    refine lv_iload_n hx hb dX0_holdsAgainst_43 rfl (lv_at hl 3 rfl) ?_
    refine lv_aload_n hx hb dX0_holdsAgainst_44 rfl (lv_at hl 0 rfl) ?_
    refine va_get (D := G) (ci := 0) (C := RX0) (T := TX0) (N := 32) hx hb hts in_X0 hown hK hP 0 xk_this rfl 4 (by decide) (hts _ q637) (fun _ h => h) rfl dX0_holdsAgainst_45 ?_
    refine lv_iconst (v := 0) hx hb dX0_holdsAgainst_48 (by decide) ?_
    refine r_iald hx hb hK hP 8 0 xk_many rfl (f := many) 0 (nI_q 0) (by decide) (by decide) dX0_holdsAgainst_49 ?_
    refine rn_ge (tgt := 121) hx hb dX0_holdsAgainst_50 (by decide) rfl (hM 0 (by omega)).1 (by omega) (by omega) (fun c_1 => absurd c_1 (by omega)) (fun c_1 => ?_)
    refine lv_iload_n hx hb dX0_holdsAgainst_53 rfl (lv_at hl 3 rfl) ?_
    refine lv_iconst (v := 1) hx hb dX0_holdsAgainst_54 (by decide) ?_
    refine lv_iadd hx hb dX0_holdsAgainst_55 ?_
    refine r_top (y := nI (ii + 1 + i + 1)) (ix_add rfl (nI_q 1)) ?_
    refine lv_istore (lv' := [(4, .int (nI (ii + 1 + i + 1))), (0, .ref (a 0)), (1, .ref z), (2, .int (nI ii)), (3, .int (nI (ii + 1 + i)))]) hx hb dX0_holdsAgainst_56 hl (by decide) rfl (fun ls hl => ?_)
    have hP : va_P G vwCl (Xx t a K many settings isVoted lotsNow seen keyOne keyTwo ((fr (fun k s => meetsX dir (settings 0) tol pp qq rr ii (ii + 1 + i) k s) ((ii + 1 + i) + 1) 0 (fr (fun j s => looksX3 dir (settings 0) tol (nK many 0) pp qq rr ii j s) (ii + 1) i v0)).2.2) ((fr (fun k s => meetsX dir (settings 0) tol pp qq rr ii (ii + 1 + i) k s) ((ii + 1 + i) + 1) 0 (fr (fun j s => looksX3 dir (settings 0) tol (nK many 0) pp qq rr ii j s) (ii + 1) i v0)).1) ((fr (fun k s => meetsX dir (settings 0) tol pp qq rr ii (ii + 1 + i) k s) ((ii + 1 + i) + 1) 0 (fr (fun j s => looksX3 dir (settings 0) tol (nK many 0) pp qq rr ii j s) (ii + 1) i v0)).2.1) without trio takenStar takenAs takenSpot pairs starArms spotArms isTurn places byStar byFar one usedNow laidMany finding) H := by rw [fr_0]; exact hP
    refine lx_looks3 G t A a cs K many settings isVoted lotsNow seen keyOne without trio takenStar takenAs takenSpot pairs starArms spotArms isTurn places byStar byFar one usedNow laidMany finding (fr (fun j s => looksX3 dir (settings 0) tol (nK many 0) pp qq rr ii j s) (ii + 1) i v0) dir z tol pp qq rr ii (ii + 1 + i) hM hB hb0 (by omega) (by omega) (by omega) ht0 ht1 ht2 hk0 hk1 hk2 (by omega) (by omega) (by omega) hx hb hml hown hts hK hD hA hE hZ (((nK many 0) - ((ii + 1 + i) + 1)) - 0) 0 (by omega) (by omega) _ _ _ _ hP hS (lv_sub hl [1, 2, 3, 4, 0] rfl) (fun keyTwo_v_2 H locs ls hP hS hl => ?_)
    have hP : va_P G vwCl (Xx t a K many settings isVoted lotsNow seen keyOne keyTwo_v_2 ((looksX3 dir (settings 0) tol (nK many 0) pp qq rr ii (ii + 1 + i) (fr (fun j s => looksX3 dir (settings 0) tol (nK many 0) pp qq rr ii j s) (ii + 1) i v0)).2.2) ((looksX3 dir (settings 0) tol (nK many 0) pp qq rr ii (ii + 1 + i) (fr (fun j s => looksX3 dir (settings 0) tol (nK many 0) pp qq rr ii j s) (ii + 1) i v0)).1) ((looksX3 dir (settings 0) tol (nK many 0) pp qq rr ii (ii + 1 + i) (fr (fun j s => looksX3 dir (settings 0) tol (nK many 0) pp qq rr ii j s) (ii + 1) i v0)).2.1) without trio takenStar takenAs takenSpot pairs starArms spotArms isTurn places byStar byFar one usedNow laidMany finding) H := hP
    refine lv_iinc (v := nI ((ii + 1 + i) + 1)) (lv' := [(3, .int (nI ((ii + 1 + i) + 1))), (0, .ref (a 0)), (1, .ref z), (2, .int (nI ii)), (4, .int (nI ((ii + 1 + i) + 1 + ((nK many 0) - ((ii + 1 + i) + 1)))))]) hx hb dX0_holdsAgainst_115 hl (k := 3) rfl (iinc_nI rfl) (by decide) rfl (fun ls hl => ?_)
    refine lv_goto (tgt := 43) hx hb dX0_holdsAgainst_118 (by decide) ?_
    have hP : va_P G vwCl (Xx t a K many settings isVoted lotsNow seen keyOne keyTwo_v_2 ((fr (fun j s => looksX3 dir (settings 0) tol (nK many 0) pp qq rr ii j s) (ii + 1) (i + 1) v0).2.2) ((fr (fun j s => looksX3 dir (settings 0) tol (nK many 0) pp qq rr ii j s) (ii + 1) (i + 1) v0).1) ((fr (fun j s => looksX3 dir (settings 0) tol (nK many 0) pp qq rr ii j s) (ii + 1) (i + 1) v0).2.1) without trio takenStar takenAs takenSpot pairs starArms spotArms isTurn places byStar byFar one usedNow laidMany finding) H := by rw [fr_s]; exact hP
    exact ih (i + 1) (by omega) (by omega) _ _ _ _ hP hS (lv_sub hl [1, 2, 3, 0] rfl) hex

set_option maxHeartbeats 4000000 in
theorem lx_looks1 {p : Program} {l : Launch} {e : Env} {s : State} {m : MethodId} {args : Array Value} {below : List Frame} {meth : Method} {c : Code} {Q : State → Prop} {H0 : Heap} (G : va_G) (t : Nat → ClassId) (A : Nat → Prop) (a : Nat → Nat) (cs : Nat → ClassId) (K : XK) (many : (Nat → Int32)) (settings : (Nat → Int32)) (isVoted : Int32) (lotsNow : Int32) (seen : (Nat → Int32)) (keyOne : (Nat → Int32)) (without : Int32) (trio : (Nat → Int32)) (takenStar : (Nat → Int32)) (takenAs : (Nat → Int32)) (takenSpot : (Nat → Int32)) (pairs : Int32) (starArms : (Nat → Int64)) (spotArms : (Nat → Int64)) (isTurn : Int32) (places : (Nat → Int32)) (byStar : (Nat → Int32)) (byFar : (Nat → Int32)) (one : (Nat → Int64)) (usedNow : (Nat → Int32)) (laidMany : (Nat → Int32)) (finding : Int32) (v0 : VS) (dir : (Nat → Int32)) (z : Nat) (tol : Int32) (pp : Nat) (qq : Nat) (rr : Nat) (hM : Mok many) (hB : BodOk K dir many) (hb0 : ¬ settings 0 = 0) (h1 : pp < nK many 1) (h2 : qq < nK many 1) (h3 : rr < nK many 1) (ht0 : trio 0 = nI pp) (ht1 : trio 1 = nI qq) (ht2 : trio 2 = nI rr) (hk0 : keyOne 0 = keyF dir (settings 0) (36 * 1 + 3 * pp) (36 * 1 + 3 * qq) (36 * 1 + 3 * rr) 0) (hk1 : keyOne 1 = keyF dir (settings 0) (36 * 1 + 3 * pp) (36 * 1 + 3 * qq) (36 * 1 + 3 * rr) 1) (hk2 : keyOne 2 = keyF dir (settings 0) (36 * 1 + 3 * pp) (36 * 1 + 3 * qq) (36 * 1 + 3 * rr) 2) (h0 : nK many 0 ≤ 12) (hx : p.tables.exec = Jvm.exec) (hb : c.code = cX0_holdsAgainst) (hml : c.maxLocals = 5) (hown : s.vm.findClass RX0 = some m.cls) (hts : ∀ w ∈ lw_all, w.before args s = true) (hK : va_K G vwCl (Tys t) s) (hD : XD A a K.L) (hA : ∀ q, H0.size ≤ q → A q) (hE : xE A a cs s H0) (hZ : xl_C z (cs 0) [.int tol] A H0) : ∀ (n i : Nat), 0 ≤ i → i + n = (nK many 0) → ∀ (keyTwo : (Nat → Int32)) (H : Heap) (locs : List Loc) (ls : Array Slot), va_P G vwCl (Xx t a K many settings isVoted lotsNow seen keyOne keyTwo ((fz (fun i s => looksX2 dir (settings 0) tol (nK many 0) pp qq rr i s) i v0).2.2) ((fz (fun i s => looksX2 dir (settings 0) tol (nK many 0) pp qq rr i s) i v0).1) ((fz (fun i s => looksX2 dir (settings 0) tol (nK many 0) pp qq rr i s) i v0).2.1) without trio takenStar takenAs takenSpot pairs starArms spotArms isTurn places byStar byFar one usedNow laidMany finding) H → va_S A H0 H locs → lv_has ls 5 [(0, .ref (a 0)), (1, .ref z), (2, .int (nI i))] → (∀ (keyTwo : (Nat → Int32)) (H : Heap) (locs : List Loc) (ls : Array Slot), va_P G vwCl (Xx t a K many settings isVoted lotsNow seen keyOne keyTwo ((fz (fun i s => looksX2 dir (settings 0) tol (nK many 0) pp qq rr i s) (nK many 0) v0).2.2) ((fz (fun i s => looksX2 dir (settings 0) tol (nK many 0) pp qq rr i s) (nK many 0) v0).1) ((fz (fun i s => looksX2 dir (settings 0) tol (nK many 0) pp qq rr i s) (nK many 0) v0).2.1) without trio takenStar takenAs takenSpot pairs starArms spotArms isTurn places byStar byFar one usedNow laidMany finding) H → va_S A H0 H locs → lv_has ls 5 [(0, .ref (a 0)), (1, .ref z), (2, .int (nI (nK many 0)))] → W p l e (rm_ 0 6 0 0) s m args below meth c H locs 0 0 Q (F0 m 127 ls [])) → W p l e (rm_ 0 6 0 0) s m args below meth c H locs 0 0 Q (F0 m 29 ls []) := by
  intro n
  induction n with
  | zero =>
    intro i hlo hi keyTwo H locs ls hP hS hl hex
    have hie : i = (nK many 0) := by omega
    subst hie
    refine lv_iload_n hx hb dX0_holdsAgainst_29 rfl (lv_at hl 2 rfl) ?_
    refine lv_aload_n hx hb dX0_holdsAgainst_30 rfl (lv_at hl 0 rfl) ?_
    refine va_get (D := G) (ci := 0) (C := RX0) (T := TX0) (N := 32) hx hb hts in_X0 hown hK hP 0 xk_this rfl 4 (by decide) (hts _ q637) (fun _ h => h) rfl dX0_holdsAgainst_31 ?_
    refine lv_iconst (v := 0) hx hb dX0_holdsAgainst_34 (by decide) ?_
    refine r_iald hx hb hK hP 8 0 xk_many rfl (f := many) 0 (nI_q 0) (by decide) (by decide) dX0_holdsAgainst_35 ?_
    refine rn_ge (tgt := 127) hx hb dX0_holdsAgainst_36 (by decide) rfl (hM 0 (by omega)).1 (by omega) (by omega) (fun c_1 => ?_) (fun c_1 => absurd c_1 (by omega))
    exact hex _ _ _ _ hP hS (lv_sub hl [0, 1, 2] rfl)
  | succ n ih =>
    intro i hlo hi keyTwo H locs ls hP hS hl hex
    have hlt : i < (nK many 0) := by omega
    refine lv_iload_n hx hb dX0_holdsAgainst_29 rfl (lv_at hl 2 rfl) ?_
    refine lv_aload_n hx hb dX0_holdsAgainst_30 rfl (lv_at hl 0 rfl) ?_
    refine va_get (D := G) (ci := 0) (C := RX0) (T := TX0) (N := 32) hx hb hts in_X0 hown hK hP 0 xk_this rfl 4 (by decide) (hts _ q637) (fun _ h => h) rfl dX0_holdsAgainst_31 ?_
    refine lv_iconst (v := 0) hx hb dX0_holdsAgainst_34 (by decide) ?_
    refine r_iald hx hb hK hP 8 0 xk_many rfl (f := many) 0 (nI_q 0) (by decide) (by decide) dX0_holdsAgainst_35 ?_
    refine rn_ge (tgt := 127) hx hb dX0_holdsAgainst_36 (by decide) rfl (hM 0 (by omega)).1 (by omega) (by omega) (fun c_1 => absurd c_1 (by omega)) (fun c_1 => ?_)
    refine lv_iload_n hx hb dX0_holdsAgainst_39 rfl (lv_at hl 2 rfl) ?_
    refine lv_iconst (v := 1) hx hb dX0_holdsAgainst_40 (by decide) ?_
    refine lv_iadd hx hb dX0_holdsAgainst_41 ?_
    refine r_top (y := nI (i + 1)) (ix_add rfl (nI_q 1)) ?_
    refine lv_istore_n (lv' := [(3, .int (nI (i + 1))), (0, .ref (a 0)), (1, .ref z), (2, .int (nI i))]) hx hb dX0_holdsAgainst_42 rfl hl (by decide) rfl (fun ls hl => ?_)
    have hP : va_P G vwCl (Xx t a K many settings isVoted lotsNow seen keyOne keyTwo ((fr (fun j s => looksX3 dir (settings 0) tol (nK many 0) pp qq rr i j s) (i + 1) 0 (fz (fun i s => looksX2 dir (settings 0) tol (nK many 0) pp qq rr i s) i v0)).2.2) ((fr (fun j s => looksX3 dir (settings 0) tol (nK many 0) pp qq rr i j s) (i + 1) 0 (fz (fun i s => looksX2 dir (settings 0) tol (nK many 0) pp qq rr i s) i v0)).1) ((fr (fun j s => looksX3 dir (settings 0) tol (nK many 0) pp qq rr i j s) (i + 1) 0 (fz (fun i s => looksX2 dir (settings 0) tol (nK many 0) pp qq rr i s) i v0)).2.1) without trio takenStar takenAs takenSpot pairs starArms spotArms isTurn places byStar byFar one usedNow laidMany finding) H := by rw [fr_0]; exact hP
    refine lx_looks2 G t A a cs K many settings isVoted lotsNow seen keyOne without trio takenStar takenAs takenSpot pairs starArms spotArms isTurn places byStar byFar one usedNow laidMany finding (fz (fun i s => looksX2 dir (settings 0) tol (nK many 0) pp qq rr i s) i v0) dir z tol pp qq rr i hM hB hb0 (by omega) (by omega) (by omega) ht0 ht1 ht2 hk0 hk1 hk2 (by omega) (by omega) hx hb hml hown hts hK hD hA hE hZ (((nK many 0) - (i + 1)) - 0) 0 (by omega) (by omega) _ _ _ _ hP hS (lv_sub hl [1, 2, 3, 0] rfl) (fun keyTwo_v_2 H locs ls hP hS hl => ?_)
    have hP : va_P G vwCl (Xx t a K many settings isVoted lotsNow seen keyOne keyTwo_v_2 ((looksX2 dir (settings 0) tol (nK many 0) pp qq rr i (fz (fun i s => looksX2 dir (settings 0) tol (nK many 0) pp qq rr i s) i v0)).2.2) ((looksX2 dir (settings 0) tol (nK many 0) pp qq rr i (fz (fun i s => looksX2 dir (settings 0) tol (nK many 0) pp qq rr i s) i v0)).1) ((looksX2 dir (settings 0) tol (nK many 0) pp qq rr i (fz (fun i s => looksX2 dir (settings 0) tol (nK many 0) pp qq rr i s) i v0)).2.1) without trio takenStar takenAs takenSpot pairs starArms spotArms isTurn places byStar byFar one usedNow laidMany finding) H := hP
    refine lv_iinc (v := nI (i + 1)) (lv' := [(2, .int (nI (i + 1))), (0, .ref (a 0)), (1, .ref z), (3, .int (nI (i + 1 + ((nK many 0) - (i + 1)))))]) hx hb dX0_holdsAgainst_121 hl (k := 2) rfl (iinc_nI rfl) (by decide) rfl (fun ls hl => ?_)
    refine lv_goto (tgt := 29) hx hb dX0_holdsAgainst_124 (by decide) ?_
    have hP : va_P G vwCl (Xx t a K many settings isVoted lotsNow seen keyOne keyTwo_v_2 ((fz (fun i s => looksX2 dir (settings 0) tol (nK many 0) pp qq rr i s) (i + 1) v0).2.2) ((fz (fun i s => looksX2 dir (settings 0) tol (nK many 0) pp qq rr i s) (i + 1) v0).1) ((fz (fun i s => looksX2 dir (settings 0) tol (nK many 0) pp qq rr i s) (i + 1) v0).2.1) without trio takenStar takenAs takenSpot pairs starArms spotArms isTurn places byStar byFar one usedNow laidMany finding) H := by rw [fz_s]; exact hP
    exact ih (i + 1) (by omega) (by omega) _ _ _ _ hP hS (lv_sub hl [1, 2, 0] rfl) hex

set_option maxHeartbeats 4000000 in
theorem mx_holds (l : Launch) (G : va_G) (t : Nat → ClassId) (A : Nat → Prop) (a : Nat → Nat) (cs : Nat → ClassId) (K : XK) (many : (Nat → Int32)) (settings : (Nat → Int32)) (isVoted : Int32) (lotsNow : Int32) (seen : (Nat → Int32)) (keyOne : (Nat → Int32)) (keyTwo : (Nat → Int32)) (without : Int32) (trio : (Nat → Int32)) (takenStar : (Nat → Int32)) (takenAs : (Nat → Int32)) (takenSpot : (Nat → Int32)) (pairs : Int32) (starArms : (Nat → Int64)) (spotArms : (Nat → Int64)) (isTurn : Int32) (places : (Nat → Int32)) (byStar : (Nat → Int32)) (byFar : (Nat → Int32)) (one : (Nat → Int64)) (usedNow : (Nat → Int32)) (laidMany : (Nat → Int32)) (finding : Int32) (v0 : VS) (dir : (Nat → Int32)) (z : Nat) (tol : Int32) (pp : Nat) (qq : Nat) (rr : Nat) (hM : Mok many) (hB : BodOk K dir many) (hb0 : ¬ settings 0 = 0) (h1 : pp < nK many 1) (h2 : qq < nK many 1) (h3 : rr < nK many 1) (ht0 : trio 0 = nI pp) (ht1 : trio 1 = nI qq) (ht2 : trio 2 = nI rr) : Met l yX0_holdsAgainst (ws_ yX0_holdsAgainst cX0_holdsAgainst 5 (none)) (rm_ 0 6 0 0) (va_Pc [.ref (a 0), .ref z] (xPf G t A a cs K.L (Xx t a K many settings isVoted lotsNow seen keyOne keyTwo v0.2.2 v0.1 v0.2.1 without trio takenStar takenAs takenSpot pairs starArms spotArms isTurn places byStar byFar one usedNow laidMany finding) z tol)) (va_Qv (fun (uv : (VS) × (Nat → Int32) × (Nat → Int32)) => uv.1 = looksX dir (settings 0) tol (nK many 0) pp qq rr v0) (mB G (fun (uv : (VS) × (Nat → Int32) × (Nat → Int32)) => Xx t a K many settings isVoted lotsNow seen uv.2.1 uv.2.2 uv.1.2.2 uv.1.1 uv.1.2.1 without trio takenStar takenAs takenSpot pairs starArms spotArms isTurn places byStar byFar one usedNow laidMany finding)) A) 0 0 A := by
  refine mkx_W (by decide) (Nat.le_of_ble_eq_true rfl) ?_
  intro p e s m below meth c ls hx hb hml hr hlk hts hown hnm hv hl
  obtain ⟨⟨hP, hK, hD, hA, hE⟩, hZ⟩ := hv
  have hS : va_S A s.heap s.heap [] := va_S.rf
  have hl : lv_has ls 5 [(0, .ref (a 0)), (1, .ref z)] := hl
  have h0 : nK many 0 ≤ 12 := (hM 0 (by omega)).2
  have h8 : nK many 1 ≤ 8 := (hM 1 (by omega)).2
  refine lv_aload_n hx hb dX0_holdsAgainst_0 rfl (lv_at hl 0 rfl) ?_
  refine lv_iconst (v := 1) hx hb dX0_holdsAgainst_1 (by decide) ?_
  refine lv_aload_n hx hb dX0_holdsAgainst_2 rfl (lv_at hl 0 rfl) ?_
  refine va_get (D := G) (ci := 0) (C := RX0) (T := TX0) (N := 32) hx hb hts in_X0 hown hK hP 0 xk_this rfl 15 (by decide) (hts _ q648) (fun _ h => h) rfl dX0_holdsAgainst_3 ?_
  refine lv_iconst (v := 0) hx hb dX0_holdsAgainst_6 (by decide) ?_
  refine r_iald hx hb hK hP 22 0 xk_trio rfl (f := trio) 0 (nI_q 0) (by decide) (by decide) dX0_holdsAgainst_7 ?_
  refine lv_aload_n hx hb dX0_holdsAgainst_8 rfl (lv_at hl 0 rfl) ?_
  refine va_get (D := G) (ci := 0) (C := RX0) (T := TX0) (N := 32) hx hb hts in_X0 hown hK hP 0 xk_this rfl 15 (by decide) (hts _ q648) (fun _ h => h) rfl dX0_holdsAgainst_9 ?_
  refine lv_iconst (v := 1) hx hb dX0_holdsAgainst_12 (by decide) ?_
  refine r_iald hx hb hK hP 22 0 xk_trio rfl (f := trio) 1 (nI_q 1) (by decide) (by decide) dX0_holdsAgainst_13 ?_
  refine lv_aload_n hx hb dX0_holdsAgainst_14 rfl (lv_at hl 0 rfl) ?_
  refine va_get (D := G) (ci := 0) (C := RX0) (T := TX0) (N := 32) hx hb hts in_X0 hown hK hP 0 xk_this rfl 15 (by decide) (hts _ q648) (fun _ h => h) rfl dX0_holdsAgainst_15 ?_
  refine lv_iconst (v := 2) hx hb dX0_holdsAgainst_18 (by decide) ?_
  refine r_iald hx hb hK hP 22 0 xk_trio rfl (f := trio) 2 (nI_q 2) (by decide) (by decide) dX0_holdsAgainst_19 ?_
  refine lv_aload_n hx hb dX0_holdsAgainst_20 rfl (lv_at hl 0 rfl) ?_
  refine va_get (D := G) (ci := 0) (C := RX0) (T := TX0) (N := 32) hx hb hts in_X0 hown hK hP 0 xk_this rfl 9 (by decide) (hts _ q642) (fun _ h => h) rfl dX0_holdsAgainst_21 ?_
  refine r_stk (st' := [.ref (a 11), .int (nI rr), .int (nI qq), .int (nI pp), .int (nI 1), .ref (a 0)]) (lc_k (lc_i ht2 (lc_i ht1 (lc_i ht0 (lc_i (nI_q 1) rfl))))) ?_
  refine va_callv (va_runV (As := [.int (nI 1), .int (nI pp), .int (nI qq), .int (nI rr), .ref (a 11)]) (rest := []) ⟨hx, hb, hml, hown, hts⟩ (mx_findsKey_keyOne l G t A a cs K many settings isVoted lotsNow seen keyOne keyTwo v0.2.2 v0.1 v0.2.1 without trio takenStar takenAs takenSpot pairs starArms spotArms isTurn places byStar byFar one usedNow laidMany finding dir 1 pp qq rr hM hB (by omega) (by omega) (by omega) (by omega) hb0) (cwV 5 hts (lw_V q260 q262 qs8 q80 q263) rfl rfl rfl cd_X0_findsKey ⟨Nat.le_of_ble_eq_true rfl, Nat.le_of_ble_eq_true rfl⟩) ⟨xPr_fb, x_recv hP hK, fun U hU hW => ⟨rfl, xPr_of hP hK hD hS hA hE hU hW⟩⟩ rfl rfl hl.1 rfl (lv_room (Nat.le_of_ble_eq_true rfl)) dX0_holdsAgainst_24 ⟨Nat.le_of_ble_eq_true rfl, Nat.le_of_ble_eq_true rfl⟩) hS (fun _ _ h => h) (fun _ h => h) (fun u tt H locs ht _ hq hP _ hkp hS => ?_)
  obtain rfl := hq
  have hP : va_P G vwCl (Xx t a K many settings isVoted lotsNow seen (keyW keyOne (keyF dir (settings 0) (36 * 1 + 3 * pp) (36 * 1 + 3 * qq) (36 * 1 + 3 * rr) 0) (keyF dir (settings 0) (36 * 1 + 3 * pp) (36 * 1 + 3 * qq) (36 * 1 + 3 * rr) 1) (keyF dir (settings 0) (36 * 1 + 3 * pp) (36 * 1 + 3 * qq) (36 * 1 + 3 * rr) 2)) keyTwo v0.2.2 v0.1 v0.2.1 without trio takenStar takenAs takenSpot pairs starArms spotArms isTurn places byStar byFar one usedNow laidMany finding) H := by rw [← ht]; exact hP
  refine lv_iconst (v := 0) hx hb dX0_holdsAgainst_27 (by decide) ?_
  refine lv_istore_n (lv' := [(2, .int 0), (0, .ref (a 0)), (1, .ref z)]) hx hb dX0_holdsAgainst_28 rfl hl (by decide) rfl (fun ls hl => ?_)
  have hP : va_P G vwCl (Xx t a K many settings isVoted lotsNow seen (keyW keyOne (keyF dir (settings 0) (36 * 1 + 3 * pp) (36 * 1 + 3 * qq) (36 * 1 + 3 * rr) 0) (keyF dir (settings 0) (36 * 1 + 3 * pp) (36 * 1 + 3 * qq) (36 * 1 + 3 * rr) 1) (keyF dir (settings 0) (36 * 1 + 3 * pp) (36 * 1 + 3 * qq) (36 * 1 + 3 * rr) 2)) keyTwo ((fz (fun i s => looksX2 dir (settings 0) tol (nK many 0) pp qq rr i s) 0 v0).2.2) ((fz (fun i s => looksX2 dir (settings 0) tol (nK many 0) pp qq rr i s) 0 v0).1) ((fz (fun i s => looksX2 dir (settings 0) tol (nK many 0) pp qq rr i s) 0 v0).2.1) without trio takenStar takenAs takenSpot pairs starArms spotArms isTurn places byStar byFar one usedNow laidMany finding) H := by rw [fz_0]; exact hP
  refine lx_looks1 G t A a cs K many settings isVoted lotsNow seen (keyW keyOne (keyF dir (settings 0) (36 * 1 + 3 * pp) (36 * 1 + 3 * qq) (36 * 1 + 3 * rr) 0) (keyF dir (settings 0) (36 * 1 + 3 * pp) (36 * 1 + 3 * qq) (36 * 1 + 3 * rr) 1) (keyF dir (settings 0) (36 * 1 + 3 * pp) (36 * 1 + 3 * qq) (36 * 1 + 3 * rr) 2)) without trio takenStar takenAs takenSpot pairs starArms spotArms isTurn places byStar byFar one usedNow laidMany finding v0 dir z tol pp qq rr hM hB hb0 (by omega) (by omega) (by omega) ht0 ht1 ht2 rfl rfl rfl (by omega) hx hb hml hown hts hK hD hA hE hZ ((nK many 0) - 0) 0 (by omega) (by omega) _ _ _ _ hP hS (lv_sub hl [1, 2, 0] rfl) (fun keyTwo_v_1 H locs ls hP hS hl => ?_)
  have hP : va_P G vwCl (Xx t a K many settings isVoted lotsNow seen (keyW keyOne (keyF dir (settings 0) (36 * 1 + 3 * pp) (36 * 1 + 3 * qq) (36 * 1 + 3 * rr) 0) (keyF dir (settings 0) (36 * 1 + 3 * pp) (36 * 1 + 3 * qq) (36 * 1 + 3 * rr) 1) (keyF dir (settings 0) (36 * 1 + 3 * pp) (36 * 1 + 3 * qq) (36 * 1 + 3 * rr) 2)) keyTwo_v_1 ((looksX dir (settings 0) tol (nK many 0) pp qq rr v0).2.2) ((looksX dir (settings 0) tol (nK many 0) pp qq rr v0).1) ((looksX dir (settings 0) tol (nK many 0) pp qq rr v0).2.1) without trio takenStar takenAs takenSpot pairs starArms spotArms isTurn places byStar byFar one usedNow laidMany finding) H := hP
  exact W.vret hx hb hr (fun tt ht _ => ⟨⟨((looksX dir (settings 0) tol (nK many 0) pp qq rr v0), (keyW keyOne (keyF dir (settings 0) (36 * 1 + 3 * pp) (36 * 1 + 3 * qq) (36 * 1 + 3 * rr) 0) (keyF dir (settings 0) (36 * 1 + 3 * pp) (36 * 1 + 3 * qq) (36 * 1 + 3 * rr) 1) (keyF dir (settings 0) (36 * 1 + 3 * pp) (36 * 1 + 3 * qq) (36 * 1 + 3 * rr) 2)), keyTwo_v_1), rfl, rfl, (show va_P G vwCl ((fun (uv : (VS) × (Nat → Int32) × (Nat → Int32)) => Xx t a K many settings isVoted lotsNow seen uv.2.1 uv.2.2 uv.1.2.2 uv.1.1 uv.1.2.1 without trio takenStar takenAs takenSpot pairs starArms spotArms isTurn places byStar byFar one usedNow laidMany finding) ((looksX dir (settings 0) tol (nK many 0) pp qq rr v0), (keyW keyOne (keyF dir (settings 0) (36 * 1 + 3 * pp) (36 * 1 + 3 * qq) (36 * 1 + 3 * rr) 0) (keyF dir (settings 0) (36 * 1 + 3 * pp) (36 * 1 + 3 * qq) (36 * 1 + 3 * rr) 1) (keyF dir (settings 0) (36 * 1 + 3 * pp) (36 * 1 + 3 * qq) (36 * 1 + 3 * rr) 2)), keyTwo_v_1)) tt.heap from by rw [ht]; exact hP)⟩, hS.F ht⟩) hS.2.2 dX0_holdsAgainst_127 hlk
