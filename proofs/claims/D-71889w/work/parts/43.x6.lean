/-! the tracker: arms, places -/
set_option maxHeartbeats 4000000 in
theorem mx_lays_one (l : Launch) (G : va_G) (t : Nat → ClassId) (A : Nat → Prop) (a : Nat → Nat) (cs : Nat → ClassId) (K : XK) (many : (Nat → Int32)) (settings : (Nat → Int32)) (isVoted : Int32) (lotsNow : Int32) (seen : (Nat → Int32)) (keyOne : (Nat → Int32)) (keyTwo : (Nat → Int32)) (votes : (Nat → Int32)) (looked : Int32) (matched : Int32) (without : Int32) (trio : (Nat → Int32)) (takenStar : (Nat → Int32)) (takenAs : (Nat → Int32)) (takenSpot : (Nat → Int32)) (pairs : Int32) (starArms : (Nat → Int64)) (spotArms : (Nat → Int64)) (isTurn : Int32) (places : (Nat → Int32)) (byStar : (Nat → Int32)) (byFar : (Nat → Int32)) (one : (Nat → Int64)) (usedNow : (Nat → Int32)) (laidMany : (Nat → Int32)) (finding : Int32) (dir : (Nat → Int32)) (q : Nat) (k : Nat) (i : Nat) (hk : k < 2) (mq : q ∈ K.L) (fq : K.f q = .inr (4 + k, [.int (dir (36 * k + 3 * i)), .int (dir (36 * k + 3 * i + 1)), .int (dir (36 * k + 3 * i + 2))])) : Met l yX0_lays (ws_ yX0_lays cX0_lays 3 (none)) (rm_ 0 1 0 0) (va_Pc [.ref q, .ref (a 49)] (xPr G t A a cs K.L (Xx t a K many settings isVoted lotsNow seen keyOne keyTwo votes looked matched without trio takenStar takenAs takenSpot pairs starArms spotArms isTurn places byStar byFar one usedNow laidMany finding))) (va_Qv (fun (uv : (Nat → Int64)) => uv = lay3 one dir (36 * k + 3 * i)) (mB G (fun (uv : (Nat → Int64)) => Xx t a K many settings isVoted lotsNow seen keyOne keyTwo votes looked matched without trio takenStar takenAs takenSpot pairs starArms spotArms isTurn places byStar byFar uv usedNow laidMany finding)) A) 0 0 A := by
  refine mkx_W (by decide) (Nat.le_of_ble_eq_true rfl) ?_
  intro p e s m below meth c ls hx hb hml hr hlk hts hown hnm hv hl
  obtain ⟨hP, hK, hD, hA, hE⟩ := hv
  have hS : va_S A s.heap s.heap [] := va_S.rf
  have hl : lv_has ls 3 [(0, .ref q), (1, .ref (a 49))] := hl
  refine lv_iconst (v := 0) hx hb dX0_lays_0 (by decide) ?_
  refine lv_istore_n (lv' := [(2, .int 0), (0, .ref q), (1, .ref (a 49))]) hx hb dX0_lays_1 rfl hl (by decide) rfl (fun ls hl => ?_)
  refine lv_iload_n hx hb dX0_lays_2 rfl (lv_at hl 0 rfl) ?_
  refine lv_iconst (v := 3) hx hb dX0_lays_3 (by decide) ?_
  refine lv_icmp_ge (tgt := 22) hx hb dX0_lays_4 (by decide) (fun c_1 => absurd c_1 (by decide)) (fun c_1 => ?_)
  refine lv_aload_n hx hb dX0_lays_7 rfl (lv_at hl 2 rfl) ?_
  refine lv_iload_n hx hb dX0_lays_8 rfl (lv_at hl 0 rfl) ?_
  refine lv_aload_n hx hb dX0_lays_9 rfl (lv_at hl 1 rfl) ?_
  refine lv_iload_n hx hb dX0_lays_10 rfl (lv_at hl 0 rfl) ?_
  refine xb_along (w := 0) hx hb hml hown hts hK (x_pool hP mq fq) (by omega) (nI_q 0) (by decide) hl.1 (Nat.le_of_ble_eq_true rfl) (Nat.le_of_ble_eq_true rfl) (Nat.le_of_ble_eq_true rfl) dX0_lays_11 ?_
  refine lv_i2l (v := ((dir (36 * k + 3 * i + 0)) : Int32).toInt64) hx hb dX0_lays_14 rfl ?_
  refine r_last hx hb hK hP (xD hD) hS 49 1 xk_one rfl 0 (nI_q 0) (by decide) (by decide) dX0_lays_15 (ws' := Xx t a K many settings isVoted lotsNow seen keyOne keyTwo votes looked matched without trio takenStar takenAs takenSpot pairs starArms spotArms isTurn places byStar byFar (vp_updL one 0 (((dir (36 * k + 3 * i + 0)) : Int32).toInt64)) usedNow laidMany finding) (xs_one _) (fun H locs hP hS => ?_)
  refine lv_iinc (v := 1) (lv' := [(2, .int 1), (0, .ref q), (1, .ref (a 49))]) hx hb dX0_lays_16 hl (k := 0) rfl (by decide) (by decide) rfl (fun ls hl => ?_)
  refine lv_goto (tgt := 2) hx hb dX0_lays_19 (by decide) ?_
  refine lv_iload_n hx hb dX0_lays_2 rfl (lv_at hl 0 rfl) ?_
  refine lv_iconst (v := 3) hx hb dX0_lays_3 (by decide) ?_
  refine lv_icmp_ge (tgt := 22) hx hb dX0_lays_4 (by decide) (fun c_2 => absurd c_2 (by decide)) (fun c_2 => ?_)
  refine lv_aload_n hx hb dX0_lays_7 rfl (lv_at hl 2 rfl) ?_
  refine lv_iload_n hx hb dX0_lays_8 rfl (lv_at hl 0 rfl) ?_
  refine lv_aload_n hx hb dX0_lays_9 rfl (lv_at hl 1 rfl) ?_
  refine lv_iload_n hx hb dX0_lays_10 rfl (lv_at hl 0 rfl) ?_
  refine xb_along (w := 1) hx hb hml hown hts hK (x_pool hP mq fq) (by omega) (nI_q 1) (by decide) hl.1 (Nat.le_of_ble_eq_true rfl) (Nat.le_of_ble_eq_true rfl) (Nat.le_of_ble_eq_true rfl) dX0_lays_11 ?_
  refine lv_i2l (v := ((dir (36 * k + 3 * i + 1)) : Int32).toInt64) hx hb dX0_lays_14 rfl ?_
  refine r_last hx hb hK hP (xD hD) hS 49 1 xk_one rfl 1 (nI_q 1) (by decide) (by decide) dX0_lays_15 (ws' := Xx t a K many settings isVoted lotsNow seen keyOne keyTwo votes looked matched without trio takenStar takenAs takenSpot pairs starArms spotArms isTurn places byStar byFar (vp_updL (vp_updL one 0 (((dir (36 * k + 3 * i + 0)) : Int32).toInt64)) 1 (((dir (36 * k + 3 * i + 1)) : Int32).toInt64)) usedNow laidMany finding) (xs_one _) (fun H locs hP hS => ?_)
  refine lv_iinc (v := 2) (lv' := [(2, .int 2), (0, .ref q), (1, .ref (a 49))]) hx hb dX0_lays_16 hl (k := 0) rfl (by decide) (by decide) rfl (fun ls hl => ?_)
  refine lv_goto (tgt := 2) hx hb dX0_lays_19 (by decide) ?_
  refine lv_iload_n hx hb dX0_lays_2 rfl (lv_at hl 0 rfl) ?_
  refine lv_iconst (v := 3) hx hb dX0_lays_3 (by decide) ?_
  refine lv_icmp_ge (tgt := 22) hx hb dX0_lays_4 (by decide) (fun c_3 => absurd c_3 (by decide)) (fun c_3 => ?_)
  refine lv_aload_n hx hb dX0_lays_7 rfl (lv_at hl 2 rfl) ?_
  refine lv_iload_n hx hb dX0_lays_8 rfl (lv_at hl 0 rfl) ?_
  refine lv_aload_n hx hb dX0_lays_9 rfl (lv_at hl 1 rfl) ?_
  refine lv_iload_n hx hb dX0_lays_10 rfl (lv_at hl 0 rfl) ?_
  refine xb_along (w := 2) hx hb hml hown hts hK (x_pool hP mq fq) (by omega) (nI_q 2) (by decide) hl.1 (Nat.le_of_ble_eq_true rfl) (Nat.le_of_ble_eq_true rfl) (Nat.le_of_ble_eq_true rfl) dX0_lays_11 ?_
  refine lv_i2l (v := ((dir (36 * k + 3 * i + 2)) : Int32).toInt64) hx hb dX0_lays_14 rfl ?_
  refine r_last hx hb hK hP (xD hD) hS 49 1 xk_one rfl 2 (nI_q 2) (by decide) (by decide) dX0_lays_15 (ws' := Xx t a K many settings isVoted lotsNow seen keyOne keyTwo votes looked matched without trio takenStar takenAs takenSpot pairs starArms spotArms isTurn places byStar byFar (vp_updL (vp_updL (vp_updL one 0 (((dir (36 * k + 3 * i + 0)) : Int32).toInt64)) 1 (((dir (36 * k + 3 * i + 1)) : Int32).toInt64)) 2 (((dir (36 * k + 3 * i + 2)) : Int32).toInt64)) usedNow laidMany finding) (xs_one _) (fun H locs hP hS => ?_)
  refine lv_iinc (v := 3) (lv' := [(2, .int 3), (0, .ref q), (1, .ref (a 49))]) hx hb dX0_lays_16 hl (k := 0) rfl (by decide) (by decide) rfl (fun ls hl => ?_)
  refine lv_goto (tgt := 2) hx hb dX0_lays_19 (by decide) ?_
  refine lv_iload_n hx hb dX0_lays_2 rfl (lv_at hl 0 rfl) ?_
  refine lv_iconst (v := 3) hx hb dX0_lays_3 (by decide) ?_
  refine lv_icmp_ge (tgt := 22) hx hb dX0_lays_4 (by decide) (fun c_4 => ?_) (fun c_4 => absurd c_4 (by decide))
  have hP : va_P G vwCl (Xx t a K many settings isVoted lotsNow seen keyOne keyTwo votes looked matched without trio takenStar takenAs takenSpot pairs starArms spotArms isTurn places byStar byFar (lay3 one dir (36 * k + 3 * i)) usedNow laidMany finding) H := by (unfold lay3; exact hP)
  exact W.vret hx hb hr (fun tt ht _ => ⟨⟨(lay3 one dir (36 * k + 3 * i)), rfl, rfl, (show va_P G vwCl ((fun (uv : (Nat → Int64)) => Xx t a K many settings isVoted lotsNow seen keyOne keyTwo votes looked matched without trio takenStar takenAs takenSpot pairs starArms spotArms isTurn places byStar byFar uv usedNow laidMany finding) (lay3 one dir (36 * k + 3 * i))) tt.heap from by rw [ht]; exact hP)⟩, hS.F ht⟩) hS.2.2 dX0_lays_22 hlk

set_option maxHeartbeats 4000000 in
theorem mx_lays_starArms (l : Launch) (G : va_G) (t : Nat → ClassId) (A : Nat → Prop) (a : Nat → Nat) (cs : Nat → ClassId) (K : XK) (many : (Nat → Int32)) (settings : (Nat → Int32)) (isVoted : Int32) (lotsNow : Int32) (seen : (Nat → Int32)) (keyOne : (Nat → Int32)) (keyTwo : (Nat → Int32)) (votes : (Nat → Int32)) (looked : Int32) (matched : Int32) (without : Int32) (trio : (Nat → Int32)) (takenStar : (Nat → Int32)) (takenAs : (Nat → Int32)) (takenSpot : (Nat → Int32)) (pairs : Int32) (starArms : (Nat → Int64)) (spotArms : (Nat → Int64)) (isTurn : Int32) (places : (Nat → Int32)) (byStar : (Nat → Int32)) (byFar : (Nat → Int32)) (one : (Nat → Int64)) (usedNow : (Nat → Int32)) (laidMany : (Nat → Int32)) (finding : Int32) (dir : (Nat → Int32)) (q : Nat) (k : Nat) (i : Nat) (hk : k < 2) (mq : q ∈ K.L) (fq : K.f q = .inr (4 + k, [.int (dir (36 * k + 3 * i)), .int (dir (36 * k + 3 * i + 1)), .int (dir (36 * k + 3 * i + 2))])) : Met l yX0_lays (ws_ yX0_lays cX0_lays 3 (none)) (rm_ 0 1 0 0) (va_Pc [.ref q, .ref (a (27 + 0))] (xPr G t A a cs K.L (Xx t a K many settings isVoted lotsNow seen keyOne keyTwo votes looked matched without trio takenStar takenAs takenSpot pairs starArms spotArms isTurn places byStar byFar one usedNow laidMany finding))) (va_Qv (fun (uv : (Nat → Int64)) => uv = layL starArms dir (36 * k + 3 * i)) (mB G (fun (uv : (Nat → Int64)) => Xx t a K many settings isVoted lotsNow seen keyOne keyTwo votes looked matched without trio takenStar takenAs takenSpot pairs uv spotArms isTurn places byStar byFar one usedNow laidMany finding)) A) 0 0 A := by
  refine mkx_W (by decide) (Nat.le_of_ble_eq_true rfl) ?_
  intro p e s m below meth c ls hx hb hml hr hlk hts hown hnm hv hl
  obtain ⟨hP, hK, hD, hA, hE⟩ := hv
  have hS : va_S A s.heap s.heap [] := va_S.rf
  have hl : lv_has ls 3 [(0, .ref q), (1, .ref (a (27 + 0)))] := hl
  refine lv_iconst (v := 0) hx hb dX0_lays_0 (by decide) ?_
  refine lv_istore_n (lv' := [(2, .int 0), (0, .ref q), (1, .ref (a (27 + 0)))]) hx hb dX0_lays_1 rfl hl (by decide) rfl (fun ls hl => ?_)
  refine lv_iload_n hx hb dX0_lays_2 rfl (lv_at hl 0 rfl) ?_
  refine lv_iconst (v := 3) hx hb dX0_lays_3 (by decide) ?_
  refine lv_icmp_ge (tgt := 22) hx hb dX0_lays_4 (by decide) (fun c_1 => absurd c_1 (by decide)) (fun c_1 => ?_)
  refine lv_aload_n hx hb dX0_lays_7 rfl (lv_at hl 2 rfl) ?_
  refine lv_iload_n hx hb dX0_lays_8 rfl (lv_at hl 0 rfl) ?_
  refine lv_aload_n hx hb dX0_lays_9 rfl (lv_at hl 1 rfl) ?_
  refine lv_iload_n hx hb dX0_lays_10 rfl (lv_at hl 0 rfl) ?_
  refine xb_along (w := 0) hx hb hml hown hts hK (x_pool hP mq fq) (by omega) (nI_q 0) (by decide) hl.1 (Nat.le_of_ble_eq_true rfl) (Nat.le_of_ble_eq_true rfl) (Nat.le_of_ble_eq_true rfl) dX0_lays_11 ?_
  refine lv_i2l (v := ((dir (36 * k + 3 * i + 0)) : Int32).toInt64) hx hb dX0_lays_14 rfl ?_
  refine r_last hx hb hK hP (xD hD) hS (27 + 0) 1 (xr_starArms (by decide)) rfl 0 (nI_q 0) (by decide) (by decide) dX0_lays_15 rfl (fun H locs hP hS => ?_)
  have hP : va_P G vwCl (Xx t a K many settings isVoted lotsNow seen keyOne keyTwo votes looked matched without trio takenStar takenAs takenSpot pairs (vp_updL starArms (3 * 0 + 0) (((dir (36 * k + 3 * i + 0)) : Int32).toInt64)) spotArms isTurn places byStar byFar one usedNow laidMany finding) H := xt_starArms (by decide) (by decide) hP
  refine lv_iinc (v := 1) (lv' := [(2, .int 1), (0, .ref q), (1, .ref (a (27 + 0)))]) hx hb dX0_lays_16 hl (k := 0) rfl (by decide) (by decide) rfl (fun ls hl => ?_)
  refine lv_goto (tgt := 2) hx hb dX0_lays_19 (by decide) ?_
  refine lv_iload_n hx hb dX0_lays_2 rfl (lv_at hl 0 rfl) ?_
  refine lv_iconst (v := 3) hx hb dX0_lays_3 (by decide) ?_
  refine lv_icmp_ge (tgt := 22) hx hb dX0_lays_4 (by decide) (fun c_2 => absurd c_2 (by decide)) (fun c_2 => ?_)
  refine lv_aload_n hx hb dX0_lays_7 rfl (lv_at hl 2 rfl) ?_
  refine lv_iload_n hx hb dX0_lays_8 rfl (lv_at hl 0 rfl) ?_
  refine lv_aload_n hx hb dX0_lays_9 rfl (lv_at hl 1 rfl) ?_
  refine lv_iload_n hx hb dX0_lays_10 rfl (lv_at hl 0 rfl) ?_
  refine xb_along (w := 1) hx hb hml hown hts hK (x_pool hP mq fq) (by omega) (nI_q 1) (by decide) hl.1 (Nat.le_of_ble_eq_true rfl) (Nat.le_of_ble_eq_true rfl) (Nat.le_of_ble_eq_true rfl) dX0_lays_11 ?_
  refine lv_i2l (v := ((dir (36 * k + 3 * i + 1)) : Int32).toInt64) hx hb dX0_lays_14 rfl ?_
  refine r_last hx hb hK hP (xD hD) hS (27 + 0) 1 (xr_starArms (by decide)) rfl 1 (nI_q 1) (by decide) (by decide) dX0_lays_15 rfl (fun H locs hP hS => ?_)
  have hP : va_P G vwCl (Xx t a K many settings isVoted lotsNow seen keyOne keyTwo votes looked matched without trio takenStar takenAs takenSpot pairs (vp_updL (vp_updL starArms (3 * 0 + 0) (((dir (36 * k + 3 * i + 0)) : Int32).toInt64)) (3 * 0 + 1) (((dir (36 * k + 3 * i + 1)) : Int32).toInt64)) spotArms isTurn places byStar byFar one usedNow laidMany finding) H := xt_starArms (by decide) (by decide) hP
  refine lv_iinc (v := 2) (lv' := [(2, .int 2), (0, .ref q), (1, .ref (a (27 + 0)))]) hx hb dX0_lays_16 hl (k := 0) rfl (by decide) (by decide) rfl (fun ls hl => ?_)
  refine lv_goto (tgt := 2) hx hb dX0_lays_19 (by decide) ?_
  refine lv_iload_n hx hb dX0_lays_2 rfl (lv_at hl 0 rfl) ?_
  refine lv_iconst (v := 3) hx hb dX0_lays_3 (by decide) ?_
  refine lv_icmp_ge (tgt := 22) hx hb dX0_lays_4 (by decide) (fun c_3 => absurd c_3 (by decide)) (fun c_3 => ?_)
  refine lv_aload_n hx hb dX0_lays_7 rfl (lv_at hl 2 rfl) ?_
  refine lv_iload_n hx hb dX0_lays_8 rfl (lv_at hl 0 rfl) ?_
  refine lv_aload_n hx hb dX0_lays_9 rfl (lv_at hl 1 rfl) ?_
  refine lv_iload_n hx hb dX0_lays_10 rfl (lv_at hl 0 rfl) ?_
  refine xb_along (w := 2) hx hb hml hown hts hK (x_pool hP mq fq) (by omega) (nI_q 2) (by decide) hl.1 (Nat.le_of_ble_eq_true rfl) (Nat.le_of_ble_eq_true rfl) (Nat.le_of_ble_eq_true rfl) dX0_lays_11 ?_
  refine lv_i2l (v := ((dir (36 * k + 3 * i + 2)) : Int32).toInt64) hx hb dX0_lays_14 rfl ?_
  refine r_last hx hb hK hP (xD hD) hS (27 + 0) 1 (xr_starArms (by decide)) rfl 2 (nI_q 2) (by decide) (by decide) dX0_lays_15 rfl (fun H locs hP hS => ?_)
  have hP : va_P G vwCl (Xx t a K many settings isVoted lotsNow seen keyOne keyTwo votes looked matched without trio takenStar takenAs takenSpot pairs (vp_updL (vp_updL (vp_updL starArms (3 * 0 + 0) (((dir (36 * k + 3 * i + 0)) : Int32).toInt64)) (3 * 0 + 1) (((dir (36 * k + 3 * i + 1)) : Int32).toInt64)) (3 * 0 + 2) (((dir (36 * k + 3 * i + 2)) : Int32).toInt64)) spotArms isTurn places byStar byFar one usedNow laidMany finding) H := xt_starArms (by decide) (by decide) hP
  refine lv_iinc (v := 3) (lv' := [(2, .int 3), (0, .ref q), (1, .ref (a (27 + 0)))]) hx hb dX0_lays_16 hl (k := 0) rfl (by decide) (by decide) rfl (fun ls hl => ?_)
  refine lv_goto (tgt := 2) hx hb dX0_lays_19 (by decide) ?_
  refine lv_iload_n hx hb dX0_lays_2 rfl (lv_at hl 0 rfl) ?_
  refine lv_iconst (v := 3) hx hb dX0_lays_3 (by decide) ?_
  refine lv_icmp_ge (tgt := 22) hx hb dX0_lays_4 (by decide) (fun c_4 => ?_) (fun c_4 => absurd c_4 (by decide))
  have hP : va_P G vwCl (Xx t a K many settings isVoted lotsNow seen keyOne keyTwo votes looked matched without trio takenStar takenAs takenSpot pairs (layL starArms dir (36 * k + 3 * i)) spotArms isTurn places byStar byFar one usedNow laidMany finding) H := by (unfold layL upd3L; exact hP)
  exact W.vret hx hb hr (fun tt ht _ => ⟨⟨(layL starArms dir (36 * k + 3 * i)), rfl, rfl, (show va_P G vwCl ((fun (uv : (Nat → Int64)) => Xx t a K many settings isVoted lotsNow seen keyOne keyTwo votes looked matched without trio takenStar takenAs takenSpot pairs uv spotArms isTurn places byStar byFar one usedNow laidMany finding) (layL starArms dir (36 * k + 3 * i))) tt.heap from by rw [ht]; exact hP)⟩, hS.F ht⟩) hS.2.2 dX0_lays_22 hlk

set_option maxHeartbeats 4000000 in
theorem mx_lays_spotArms (l : Launch) (G : va_G) (t : Nat → ClassId) (A : Nat → Prop) (a : Nat → Nat) (cs : Nat → ClassId) (K : XK) (many : (Nat → Int32)) (settings : (Nat → Int32)) (isVoted : Int32) (lotsNow : Int32) (seen : (Nat → Int32)) (keyOne : (Nat → Int32)) (keyTwo : (Nat → Int32)) (votes : (Nat → Int32)) (looked : Int32) (matched : Int32) (without : Int32) (trio : (Nat → Int32)) (takenStar : (Nat → Int32)) (takenAs : (Nat → Int32)) (takenSpot : (Nat → Int32)) (pairs : Int32) (starArms : (Nat → Int64)) (spotArms : (Nat → Int64)) (isTurn : Int32) (places : (Nat → Int32)) (byStar : (Nat → Int32)) (byFar : (Nat → Int32)) (one : (Nat → Int64)) (usedNow : (Nat → Int32)) (laidMany : (Nat → Int32)) (finding : Int32) (dir : (Nat → Int32)) (q : Nat) (k : Nat) (i : Nat) (hk : k < 2) (mq : q ∈ K.L) (fq : K.f q = .inr (4 + k, [.int (dir (36 * k + 3 * i)), .int (dir (36 * k + 3 * i + 1)), .int (dir (36 * k + 3 * i + 2))])) : Met l yX0_lays (ws_ yX0_lays cX0_lays 3 (none)) (rm_ 0 1 0 0) (va_Pc [.ref q, .ref (a (31 + 0))] (xPr G t A a cs K.L (Xx t a K many settings isVoted lotsNow seen keyOne keyTwo votes looked matched without trio takenStar takenAs takenSpot pairs starArms spotArms isTurn places byStar byFar one usedNow laidMany finding))) (va_Qv (fun (uv : (Nat → Int64)) => uv = layL spotArms dir (36 * k + 3 * i)) (mB G (fun (uv : (Nat → Int64)) => Xx t a K many settings isVoted lotsNow seen keyOne keyTwo votes looked matched without trio takenStar takenAs takenSpot pairs starArms uv isTurn places byStar byFar one usedNow laidMany finding)) A) 0 0 A := by
  refine mkx_W (by decide) (Nat.le_of_ble_eq_true rfl) ?_
  intro p e s m below meth c ls hx hb hml hr hlk hts hown hnm hv hl
  obtain ⟨hP, hK, hD, hA, hE⟩ := hv
  have hS : va_S A s.heap s.heap [] := va_S.rf
  have hl : lv_has ls 3 [(0, .ref q), (1, .ref (a (31 + 0)))] := hl
  refine lv_iconst (v := 0) hx hb dX0_lays_0 (by decide) ?_
  refine lv_istore_n (lv' := [(2, .int 0), (0, .ref q), (1, .ref (a (31 + 0)))]) hx hb dX0_lays_1 rfl hl (by decide) rfl (fun ls hl => ?_)
  refine lv_iload_n hx hb dX0_lays_2 rfl (lv_at hl 0 rfl) ?_
  refine lv_iconst (v := 3) hx hb dX0_lays_3 (by decide) ?_
  refine lv_icmp_ge (tgt := 22) hx hb dX0_lays_4 (by decide) (fun c_1 => absurd c_1 (by decide)) (fun c_1 => ?_)
  refine lv_aload_n hx hb dX0_lays_7 rfl (lv_at hl 2 rfl) ?_
  refine lv_iload_n hx hb dX0_lays_8 rfl (lv_at hl 0 rfl) ?_
  refine lv_aload_n hx hb dX0_lays_9 rfl (lv_at hl 1 rfl) ?_
  refine lv_iload_n hx hb dX0_lays_10 rfl (lv_at hl 0 rfl) ?_
  refine xb_along (w := 0) hx hb hml hown hts hK (x_pool hP mq fq) (by omega) (nI_q 0) (by decide) hl.1 (Nat.le_of_ble_eq_true rfl) (Nat.le_of_ble_eq_true rfl) (Nat.le_of_ble_eq_true rfl) dX0_lays_11 ?_
  refine lv_i2l (v := ((dir (36 * k + 3 * i + 0)) : Int32).toInt64) hx hb dX0_lays_14 rfl ?_
  refine r_last hx hb hK hP (xD hD) hS (31 + 0) 1 (xr_spotArms (by decide)) rfl 0 (nI_q 0) (by decide) (by decide) dX0_lays_15 rfl (fun H locs hP hS => ?_)
  have hP : va_P G vwCl (Xx t a K many settings isVoted lotsNow seen keyOne keyTwo votes looked matched without trio takenStar takenAs takenSpot pairs starArms (vp_updL spotArms (3 * 0 + 0) (((dir (36 * k + 3 * i + 0)) : Int32).toInt64)) isTurn places byStar byFar one usedNow laidMany finding) H := xt_spotArms (by decide) (by decide) hP
  refine lv_iinc (v := 1) (lv' := [(2, .int 1), (0, .ref q), (1, .ref (a (31 + 0)))]) hx hb dX0_lays_16 hl (k := 0) rfl (by decide) (by decide) rfl (fun ls hl => ?_)
  refine lv_goto (tgt := 2) hx hb dX0_lays_19 (by decide) ?_
  refine lv_iload_n hx hb dX0_lays_2 rfl (lv_at hl 0 rfl) ?_
  refine lv_iconst (v := 3) hx hb dX0_lays_3 (by decide) ?_
  refine lv_icmp_ge (tgt := 22) hx hb dX0_lays_4 (by decide) (fun c_2 => absurd c_2 (by decide)) (fun c_2 => ?_)
  refine lv_aload_n hx hb dX0_lays_7 rfl (lv_at hl 2 rfl) ?_
  refine lv_iload_n hx hb dX0_lays_8 rfl (lv_at hl 0 rfl) ?_
  refine lv_aload_n hx hb dX0_lays_9 rfl (lv_at hl 1 rfl) ?_
  refine lv_iload_n hx hb dX0_lays_10 rfl (lv_at hl 0 rfl) ?_
  refine xb_along (w := 1) hx hb hml hown hts hK (x_pool hP mq fq) (by omega) (nI_q 1) (by decide) hl.1 (Nat.le_of_ble_eq_true rfl) (Nat.le_of_ble_eq_true rfl) (Nat.le_of_ble_eq_true rfl) dX0_lays_11 ?_
  refine lv_i2l (v := ((dir (36 * k + 3 * i + 1)) : Int32).toInt64) hx hb dX0_lays_14 rfl ?_
  refine r_last hx hb hK hP (xD hD) hS (31 + 0) 1 (xr_spotArms (by decide)) rfl 1 (nI_q 1) (by decide) (by decide) dX0_lays_15 rfl (fun H locs hP hS => ?_)
  have hP : va_P G vwCl (Xx t a K many settings isVoted lotsNow seen keyOne keyTwo votes looked matched without trio takenStar takenAs takenSpot pairs starArms (vp_updL (vp_updL spotArms (3 * 0 + 0) (((dir (36 * k + 3 * i + 0)) : Int32).toInt64)) (3 * 0 + 1) (((dir (36 * k + 3 * i + 1)) : Int32).toInt64)) isTurn places byStar byFar one usedNow laidMany finding) H := xt_spotArms (by decide) (by decide) hP
  refine lv_iinc (v := 2) (lv' := [(2, .int 2), (0, .ref q), (1, .ref (a (31 + 0)))]) hx hb dX0_lays_16 hl (k := 0) rfl (by decide) (by decide) rfl (fun ls hl => ?_)
  refine lv_goto (tgt := 2) hx hb dX0_lays_19 (by decide) ?_
  refine lv_iload_n hx hb dX0_lays_2 rfl (lv_at hl 0 rfl) ?_
  refine lv_iconst (v := 3) hx hb dX0_lays_3 (by decide) ?_
  refine lv_icmp_ge (tgt := 22) hx hb dX0_lays_4 (by decide) (fun c_3 => absurd c_3 (by decide)) (fun c_3 => ?_)
  refine lv_aload_n hx hb dX0_lays_7 rfl (lv_at hl 2 rfl) ?_
  refine lv_iload_n hx hb dX0_lays_8 rfl (lv_at hl 0 rfl) ?_
  refine lv_aload_n hx hb dX0_lays_9 rfl (lv_at hl 1 rfl) ?_
  refine lv_iload_n hx hb dX0_lays_10 rfl (lv_at hl 0 rfl) ?_
  refine xb_along (w := 2) hx hb hml hown hts hK (x_pool hP mq fq) (by omega) (nI_q 2) (by decide) hl.1 (Nat.le_of_ble_eq_true rfl) (Nat.le_of_ble_eq_true rfl) (Nat.le_of_ble_eq_true rfl) dX0_lays_11 ?_
  refine lv_i2l (v := ((dir (36 * k + 3 * i + 2)) : Int32).toInt64) hx hb dX0_lays_14 rfl ?_
  refine r_last hx hb hK hP (xD hD) hS (31 + 0) 1 (xr_spotArms (by decide)) rfl 2 (nI_q 2) (by decide) (by decide) dX0_lays_15 rfl (fun H locs hP hS => ?_)
  have hP : va_P G vwCl (Xx t a K many settings isVoted lotsNow seen keyOne keyTwo votes looked matched without trio takenStar takenAs takenSpot pairs starArms (vp_updL (vp_updL (vp_updL spotArms (3 * 0 + 0) (((dir (36 * k + 3 * i + 0)) : Int32).toInt64)) (3 * 0 + 1) (((dir (36 * k + 3 * i + 1)) : Int32).toInt64)) (3 * 0 + 2) (((dir (36 * k + 3 * i + 2)) : Int32).toInt64)) isTurn places byStar byFar one usedNow laidMany finding) H := xt_spotArms (by decide) (by decide) hP
  refine lv_iinc (v := 3) (lv' := [(2, .int 3), (0, .ref q), (1, .ref (a (31 + 0)))]) hx hb dX0_lays_16 hl (k := 0) rfl (by decide) (by decide) rfl (fun ls hl => ?_)
  refine lv_goto (tgt := 2) hx hb dX0_lays_19 (by decide) ?_
  refine lv_iload_n hx hb dX0_lays_2 rfl (lv_at hl 0 rfl) ?_
  refine lv_iconst (v := 3) hx hb dX0_lays_3 (by decide) ?_
  refine lv_icmp_ge (tgt := 22) hx hb dX0_lays_4 (by decide) (fun c_4 => ?_) (fun c_4 => absurd c_4 (by decide))
  have hP : va_P G vwCl (Xx t a K many settings isVoted lotsNow seen keyOne keyTwo votes looked matched without trio takenStar takenAs takenSpot pairs starArms (layL spotArms dir (36 * k + 3 * i)) isTurn places byStar byFar one usedNow laidMany finding) H := by (unfold layL upd3L; exact hP)
  exact W.vret hx hb hr (fun tt ht _ => ⟨⟨(layL spotArms dir (36 * k + 3 * i)), rfl, rfl, (show va_P G vwCl ((fun (uv : (Nat → Int64)) => Xx t a K many settings isVoted lotsNow seen keyOne keyTwo votes looked matched without trio takenStar takenAs takenSpot pairs starArms uv isTurn places byStar byFar one usedNow laidMany finding) (layL spotArms dir (36 * k + 3 * i))) tt.heap from by rw [ht]; exact hP)⟩, hS.F ht⟩) hS.2.2 dX0_lays_22 hlk

set_option maxHeartbeats 4000000 in
theorem mx_crosses_starArms_crsA (l : Launch) (G : va_G) (t : Nat → ClassId) (A : Nat → Prop) (a : Nat → Nat) (cs : Nat → ClassId) (K : XK) (many : (Nat → Int32)) (settings : (Nat → Int32)) (isVoted : Int32) (lotsNow : Int32) (seen : (Nat → Int32)) (keyOne : (Nat → Int32)) (keyTwo : (Nat → Int32)) (votes : (Nat → Int32)) (looked : Int32) (matched : Int32) (without : Int32) (trio : (Nat → Int32)) (takenStar : (Nat → Int32)) (takenAs : (Nat → Int32)) (takenSpot : (Nat → Int32)) (pairs : Int32) (starArms : (Nat → Int64)) (spotArms : (Nat → Int64)) (isTurn : Int32) (places : (Nat → Int32)) (byStar : (Nat → Int32)) (byFar : (Nat → Int32)) (one : (Nat → Int64)) (usedNow : (Nat → Int32)) (laidMany : (Nat → Int32)) (finding : Int32) (dir : (Nat → Int32)) : Met l yX0_crosses (ws_ yX0_crosses cX0_crosses 6 (none)) (rm_ 0 0 0 0) (va_Pc [.ref (a (27 + 0)), .ref (a 49), .ref (a (27 + 1))] (xPr G t A a cs K.L (Xx t a K many settings isVoted lotsNow seen keyOne keyTwo votes looked matched without trio takenStar takenAs takenSpot pairs starArms spotArms isTurn places byStar byFar one usedNow laidMany finding))) (va_Qv (fun (uv : (Nat → Int64)) => uv = crsA starArms one) (mB G (fun (uv : (Nat → Int64)) => Xx t a K many settings isVoted lotsNow seen keyOne keyTwo votes looked matched without trio takenStar takenAs takenSpot pairs uv spotArms isTurn places byStar byFar one usedNow laidMany finding)) A) 0 0 A := by
  refine mkx_W (by decide) (Nat.le_of_ble_eq_true rfl) ?_
  intro p e s m below meth c ls hx hb hml hr hlk hts hown hnm hv hl
  obtain ⟨hP, hK, hD, hA, hE⟩ := hv
  have hS : va_S A s.heap s.heap [] := va_S.rf
  have hl : lv_has ls 6 [(0, .ref (a (27 + 0))), (1, .ref (a 49)), (2, .ref (a (27 + 1)))] := hl
  refine lv_iconst (v := 0) hx hb dX0_crosses_0 (by decide) ?_
  refine lv_istore_n (lv' := [(3, .int 0), (0, .ref (a (27 + 0))), (1, .ref (a 49)), (2, .ref (a (27 + 1)))]) hx hb dX0_crosses_1 rfl hl (by decide) rfl (fun ls hl => ?_)
  refine lv_iload_n hx hb dX0_crosses_2 rfl (lv_at hl 0 rfl) ?_
  refine lv_iconst (v := 3) hx hb dX0_crosses_3 (by decide) ?_
  refine lv_icmp_ge (tgt := 49) hx hb dX0_crosses_4 (by decide) (fun c_1 => absurd c_1 (by decide)) (fun c_1 => ?_)
  refine lv_iload_n hx hb dX0_crosses_7 rfl (lv_at hl 0 rfl) ?_
  refine lv_iconst (v := 1) hx hb dX0_crosses_8 (by decide) ?_
  refine lv_iadd hx hb dX0_crosses_9 ?_
  refine r_top (y := 1) (by decide) ?_
  refine lv_iconst (v := 3) hx hb dX0_crosses_10 (by decide) ?_
  refine lv_irem hx hb dX0_crosses_11 (by decide) ?_
  refine r_top (y := 1) (by decide) ?_
  refine lv_istore (lv' := [(4, .int 1), (3, .int 0), (0, .ref (a (27 + 0))), (1, .ref (a 49)), (2, .ref (a (27 + 1)))]) hx hb dX0_crosses_12 hl (by decide) rfl (fun ls hl => ?_)
  refine lv_iload_n hx hb dX0_crosses_14 rfl (lv_at hl 1 rfl) ?_
  refine lv_iconst (v := 2) hx hb dX0_crosses_15 (by decide) ?_
  refine lv_iadd hx hb dX0_crosses_16 ?_
  refine r_top (y := 2) (by decide) ?_
  refine lv_iconst (v := 3) hx hb dX0_crosses_17 (by decide) ?_
  refine lv_irem hx hb dX0_crosses_18 (by decide) ?_
  refine r_top (y := 2) (by decide) ?_
  refine lv_istore (lv' := [(5, .int 2), (4, .int 1), (3, .int 0), (0, .ref (a (27 + 0))), (1, .ref (a 49)), (2, .ref (a (27 + 1)))]) hx hb dX0_crosses_19 hl (by decide) rfl (fun ls hl => ?_)
  refine lv_aload_n hx hb dX0_crosses_21 rfl (lv_at hl 5 rfl) ?_
  refine lv_iload_n hx hb dX0_crosses_22 rfl (lv_at hl 2 rfl) ?_
  refine lv_aload_n hx hb dX0_crosses_23 rfl (lv_at hl 3 rfl) ?_
  refine lv_iload hx hb dX0_crosses_24 (lv_at hl 1 rfl) ?_
  refine r_lald hx hb hK hP (27 + 0) 1 (xr_starArms (by decide)) rfl 1 (nI_q 1) (by decide) (by decide) dX0_crosses_26 ?_
  refine r_topl (y := (starArms (3 * 0 + 1))) rfl ?_
  refine lv_aload_n hx hb dX0_crosses_27 rfl (lv_at hl 4 rfl) ?_
  refine lv_iload hx hb dX0_crosses_28 (lv_at hl 0 rfl) ?_
  refine r_lald hx hb hK hP 49 1 xk_one rfl (f := one) 2 (nI_q 2) (by decide) (by decide) dX0_crosses_30 ?_
  refine lv_lmul hx hb dX0_crosses_31 ?_
  refine lv_aload_n hx hb dX0_crosses_32 rfl (lv_at hl 3 rfl) ?_
  refine lv_iload hx hb dX0_crosses_33 (lv_at hl 0 rfl) ?_
  refine r_lald hx hb hK hP (27 + 0) 1 (xr_starArms (by decide)) rfl 2 (nI_q 2) (by decide) (by decide) dX0_crosses_35 ?_
  refine r_topl (y := (starArms (3 * 0 + 2))) rfl ?_
  refine lv_aload_n hx hb dX0_crosses_36 rfl (lv_at hl 4 rfl) ?_
  refine lv_iload hx hb dX0_crosses_37 (lv_at hl 1 rfl) ?_
  refine r_lald hx hb hK hP 49 1 xk_one rfl (f := one) 1 (nI_q 1) (by decide) (by decide) dX0_crosses_39 ?_
  refine lv_lmul hx hb dX0_crosses_40 ?_
  refine lv_lsub hx hb dX0_crosses_41 ?_
  refine r_last hx hb hK hP (xD hD) hS (27 + 1) 1 (xr_starArms (by decide)) rfl 0 (nI_q 0) (by decide) (by decide) dX0_crosses_42 rfl (fun H locs hP hS => ?_)
  have hP : va_P G vwCl (Xx t a K many settings isVoted lotsNow seen keyOne keyTwo votes looked matched without trio takenStar takenAs takenSpot pairs (vp_updL starArms (3 * 1 + 0) (((starArms (3 * 0 + 1)) * (one 2)) - ((starArms (3 * 0 + 2)) * (one 1)))) spotArms isTurn places byStar byFar one usedNow laidMany finding) H := xt_starArms (by decide) (by decide) hP
  refine lv_iinc (v := 1) (lv' := [(3, .int 1), (5, .int 2), (4, .int 1), (0, .ref (a (27 + 0))), (1, .ref (a 49)), (2, .ref (a (27 + 1)))]) hx hb dX0_crosses_43 hl (k := 2) rfl (by decide) (by decide) rfl (fun ls hl => ?_)
  refine lv_goto (tgt := 2) hx hb dX0_crosses_46 (by decide) ?_
  refine lv_iload_n hx hb dX0_crosses_2 rfl (lv_at hl 0 rfl) ?_
  refine lv_iconst (v := 3) hx hb dX0_crosses_3 (by decide) ?_
  refine lv_icmp_ge (tgt := 49) hx hb dX0_crosses_4 (by decide) (fun c_2 => absurd c_2 (by decide)) (fun c_2 => ?_)
  refine lv_iload_n hx hb dX0_crosses_7 rfl (lv_at hl 0 rfl) ?_
  refine lv_iconst (v := 1) hx hb dX0_crosses_8 (by decide) ?_
  refine lv_iadd hx hb dX0_crosses_9 ?_
  refine r_top (y := 2) (by decide) ?_
  refine lv_iconst (v := 3) hx hb dX0_crosses_10 (by decide) ?_
  refine lv_irem hx hb dX0_crosses_11 (by decide) ?_
  refine r_top (y := 2) (by decide) ?_
  refine lv_istore (lv' := [(4, .int 2), (3, .int 1), (5, .int 2), (0, .ref (a (27 + 0))), (1, .ref (a 49)), (2, .ref (a (27 + 1)))]) hx hb dX0_crosses_12 hl (by decide) rfl (fun ls hl => ?_)
  refine lv_iload_n hx hb dX0_crosses_14 rfl (lv_at hl 1 rfl) ?_
  refine lv_iconst (v := 2) hx hb dX0_crosses_15 (by decide) ?_
  refine lv_iadd hx hb dX0_crosses_16 ?_
  refine r_top (y := 3) (by decide) ?_
  refine lv_iconst (v := 3) hx hb dX0_crosses_17 (by decide) ?_
  refine lv_irem hx hb dX0_crosses_18 (by decide) ?_
  refine r_top (y := 0) (by decide) ?_
  refine lv_istore (lv' := [(5, .int 0), (4, .int 2), (3, .int 1), (0, .ref (a (27 + 0))), (1, .ref (a 49)), (2, .ref (a (27 + 1)))]) hx hb dX0_crosses_19 hl (by decide) rfl (fun ls hl => ?_)
  refine lv_aload_n hx hb dX0_crosses_21 rfl (lv_at hl 5 rfl) ?_
  refine lv_iload_n hx hb dX0_crosses_22 rfl (lv_at hl 2 rfl) ?_
  refine lv_aload_n hx hb dX0_crosses_23 rfl (lv_at hl 3 rfl) ?_
  refine lv_iload hx hb dX0_crosses_24 (lv_at hl 1 rfl) ?_
  refine r_lald hx hb hK hP (27 + 0) 1 (xr_starArms (by decide)) rfl 2 (nI_q 2) (by decide) (by decide) dX0_crosses_26 ?_
  refine r_topl (y := (starArms (3 * 0 + 2))) rfl ?_
  refine lv_aload_n hx hb dX0_crosses_27 rfl (lv_at hl 4 rfl) ?_
  refine lv_iload hx hb dX0_crosses_28 (lv_at hl 0 rfl) ?_
  refine r_lald hx hb hK hP 49 1 xk_one rfl (f := one) 0 (nI_q 0) (by decide) (by decide) dX0_crosses_30 ?_
  refine lv_lmul hx hb dX0_crosses_31 ?_
  refine lv_aload_n hx hb dX0_crosses_32 rfl (lv_at hl 3 rfl) ?_
  refine lv_iload hx hb dX0_crosses_33 (lv_at hl 0 rfl) ?_
  refine r_lald hx hb hK hP (27 + 0) 1 (xr_starArms (by decide)) rfl 0 (nI_q 0) (by decide) (by decide) dX0_crosses_35 ?_
  refine r_topl (y := (starArms (3 * 0 + 0))) rfl ?_
  refine lv_aload_n hx hb dX0_crosses_36 rfl (lv_at hl 4 rfl) ?_
  refine lv_iload hx hb dX0_crosses_37 (lv_at hl 1 rfl) ?_
  refine r_lald hx hb hK hP 49 1 xk_one rfl (f := one) 2 (nI_q 2) (by decide) (by decide) dX0_crosses_39 ?_
  refine lv_lmul hx hb dX0_crosses_40 ?_
  refine lv_lsub hx hb dX0_crosses_41 ?_
  refine r_last hx hb hK hP (xD hD) hS (27 + 1) 1 (xr_starArms (by decide)) rfl 1 (nI_q 1) (by decide) (by decide) dX0_crosses_42 rfl (fun H locs hP hS => ?_)
  have hP : va_P G vwCl (Xx t a K many settings isVoted lotsNow seen keyOne keyTwo votes looked matched without trio takenStar takenAs takenSpot pairs (vp_updL (vp_updL starArms (3 * 1 + 0) (((starArms (3 * 0 + 1)) * (one 2)) - ((starArms (3 * 0 + 2)) * (one 1)))) (3 * 1 + 1) (((starArms (3 * 0 + 2)) * (one 0)) - ((starArms (3 * 0 + 0)) * (one 2)))) spotArms isTurn places byStar byFar one usedNow laidMany finding) H := xt_starArms (by decide) (by decide) hP
  refine lv_iinc (v := 2) (lv' := [(3, .int 2), (5, .int 0), (4, .int 2), (0, .ref (a (27 + 0))), (1, .ref (a 49)), (2, .ref (a (27 + 1)))]) hx hb dX0_crosses_43 hl (k := 2) rfl (by decide) (by decide) rfl (fun ls hl => ?_)
  refine lv_goto (tgt := 2) hx hb dX0_crosses_46 (by decide) ?_
  refine lv_iload_n hx hb dX0_crosses_2 rfl (lv_at hl 0 rfl) ?_
  refine lv_iconst (v := 3) hx hb dX0_crosses_3 (by decide) ?_
  refine lv_icmp_ge (tgt := 49) hx hb dX0_crosses_4 (by decide) (fun c_3 => absurd c_3 (by decide)) (fun c_3 => ?_)
  refine lv_iload_n hx hb dX0_crosses_7 rfl (lv_at hl 0 rfl) ?_
  refine lv_iconst (v := 1) hx hb dX0_crosses_8 (by decide) ?_
  refine lv_iadd hx hb dX0_crosses_9 ?_
  refine r_top (y := 3) (by decide) ?_
  refine lv_iconst (v := 3) hx hb dX0_crosses_10 (by decide) ?_
  refine lv_irem hx hb dX0_crosses_11 (by decide) ?_
  refine r_top (y := 0) (by decide) ?_
  refine lv_istore (lv' := [(4, .int 0), (3, .int 2), (5, .int 0), (0, .ref (a (27 + 0))), (1, .ref (a 49)), (2, .ref (a (27 + 1)))]) hx hb dX0_crosses_12 hl (by decide) rfl (fun ls hl => ?_)
  refine lv_iload_n hx hb dX0_crosses_14 rfl (lv_at hl 1 rfl) ?_
  refine lv_iconst (v := 2) hx hb dX0_crosses_15 (by decide) ?_
  refine lv_iadd hx hb dX0_crosses_16 ?_
  refine r_top (y := 4) (by decide) ?_
  refine lv_iconst (v := 3) hx hb dX0_crosses_17 (by decide) ?_
  refine lv_irem hx hb dX0_crosses_18 (by decide) ?_
  refine r_top (y := 1) (by decide) ?_
  refine lv_istore (lv' := [(5, .int 1), (4, .int 0), (3, .int 2), (0, .ref (a (27 + 0))), (1, .ref (a 49)), (2, .ref (a (27 + 1)))]) hx hb dX0_crosses_19 hl (by decide) rfl (fun ls hl => ?_)
  refine lv_aload_n hx hb dX0_crosses_21 rfl (lv_at hl 5 rfl) ?_
  refine lv_iload_n hx hb dX0_crosses_22 rfl (lv_at hl 2 rfl) ?_
  refine lv_aload_n hx hb dX0_crosses_23 rfl (lv_at hl 3 rfl) ?_
  refine lv_iload hx hb dX0_crosses_24 (lv_at hl 1 rfl) ?_
  refine r_lald hx hb hK hP (27 + 0) 1 (xr_starArms (by decide)) rfl 0 (nI_q 0) (by decide) (by decide) dX0_crosses_26 ?_
  refine r_topl (y := (starArms (3 * 0 + 0))) rfl ?_
  refine lv_aload_n hx hb dX0_crosses_27 rfl (lv_at hl 4 rfl) ?_
  refine lv_iload hx hb dX0_crosses_28 (lv_at hl 0 rfl) ?_
  refine r_lald hx hb hK hP 49 1 xk_one rfl (f := one) 1 (nI_q 1) (by decide) (by decide) dX0_crosses_30 ?_
  refine lv_lmul hx hb dX0_crosses_31 ?_
  refine lv_aload_n hx hb dX0_crosses_32 rfl (lv_at hl 3 rfl) ?_
  refine lv_iload hx hb dX0_crosses_33 (lv_at hl 0 rfl) ?_
  refine r_lald hx hb hK hP (27 + 0) 1 (xr_starArms (by decide)) rfl 1 (nI_q 1) (by decide) (by decide) dX0_crosses_35 ?_
  refine r_topl (y := (starArms (3 * 0 + 1))) rfl ?_
  refine lv_aload_n hx hb dX0_crosses_36 rfl (lv_at hl 4 rfl) ?_
  refine lv_iload hx hb dX0_crosses_37 (lv_at hl 1 rfl) ?_
  refine r_lald hx hb hK hP 49 1 xk_one rfl (f := one) 0 (nI_q 0) (by decide) (by decide) dX0_crosses_39 ?_
  refine lv_lmul hx hb dX0_crosses_40 ?_
  refine lv_lsub hx hb dX0_crosses_41 ?_
  refine r_last hx hb hK hP (xD hD) hS (27 + 1) 1 (xr_starArms (by decide)) rfl 2 (nI_q 2) (by decide) (by decide) dX0_crosses_42 rfl (fun H locs hP hS => ?_)
  have hP : va_P G vwCl (Xx t a K many settings isVoted lotsNow seen keyOne keyTwo votes looked matched without trio takenStar takenAs takenSpot pairs (vp_updL (vp_updL (vp_updL starArms (3 * 1 + 0) (((starArms (3 * 0 + 1)) * (one 2)) - ((starArms (3 * 0 + 2)) * (one 1)))) (3 * 1 + 1) (((starArms (3 * 0 + 2)) * (one 0)) - ((starArms (3 * 0 + 0)) * (one 2)))) (3 * 1 + 2) (((starArms (3 * 0 + 0)) * (one 1)) - ((starArms (3 * 0 + 1)) * (one 0)))) spotArms isTurn places byStar byFar one usedNow laidMany finding) H := xt_starArms (by decide) (by decide) hP
  refine lv_iinc (v := 3) (lv' := [(3, .int 3), (5, .int 1), (4, .int 0), (0, .ref (a (27 + 0))), (1, .ref (a 49)), (2, .ref (a (27 + 1)))]) hx hb dX0_crosses_43 hl (k := 2) rfl (by decide) (by decide) rfl (fun ls hl => ?_)
  refine lv_goto (tgt := 2) hx hb dX0_crosses_46 (by decide) ?_
  refine lv_iload_n hx hb dX0_crosses_2 rfl (lv_at hl 0 rfl) ?_
  refine lv_iconst (v := 3) hx hb dX0_crosses_3 (by decide) ?_
  refine lv_icmp_ge (tgt := 49) hx hb dX0_crosses_4 (by decide) (fun c_4 => ?_) (fun c_4 => absurd c_4 (by decide))
  have hP : va_P G vwCl (Xx t a K many settings isVoted lotsNow seen keyOne keyTwo votes looked matched without trio takenStar takenAs takenSpot pairs (crsA starArms one) spotArms isTurn places byStar byFar one usedNow laidMany finding) H := by (unfold crsA upd3L; exact hP)
  exact W.vret hx hb hr (fun tt ht _ => ⟨⟨(crsA starArms one), rfl, rfl, (show va_P G vwCl ((fun (uv : (Nat → Int64)) => Xx t a K many settings isVoted lotsNow seen keyOne keyTwo votes looked matched without trio takenStar takenAs takenSpot pairs uv spotArms isTurn places byStar byFar one usedNow laidMany finding) (crsA starArms one)) tt.heap from by rw [ht]; exact hP)⟩, hS.F ht⟩) hS.2.2 dX0_crosses_49 hlk

set_option maxHeartbeats 4000000 in
theorem mx_crosses_starArms_crsB (l : Launch) (G : va_G) (t : Nat → ClassId) (A : Nat → Prop) (a : Nat → Nat) (cs : Nat → ClassId) (K : XK) (many : (Nat → Int32)) (settings : (Nat → Int32)) (isVoted : Int32) (lotsNow : Int32) (seen : (Nat → Int32)) (keyOne : (Nat → Int32)) (keyTwo : (Nat → Int32)) (votes : (Nat → Int32)) (looked : Int32) (matched : Int32) (without : Int32) (trio : (Nat → Int32)) (takenStar : (Nat → Int32)) (takenAs : (Nat → Int32)) (takenSpot : (Nat → Int32)) (pairs : Int32) (starArms : (Nat → Int64)) (spotArms : (Nat → Int64)) (isTurn : Int32) (places : (Nat → Int32)) (byStar : (Nat → Int32)) (byFar : (Nat → Int32)) (one : (Nat → Int64)) (usedNow : (Nat → Int32)) (laidMany : (Nat → Int32)) (finding : Int32) (dir : (Nat → Int32)) : Met l yX0_crosses (ws_ yX0_crosses cX0_crosses 6 (none)) (rm_ 0 0 0 0) (va_Pc [.ref (a (27 + 0)), .ref (a (27 + 1)), .ref (a (27 + 2))] (xPr G t A a cs K.L (Xx t a K many settings isVoted lotsNow seen keyOne keyTwo votes looked matched without trio takenStar takenAs takenSpot pairs starArms spotArms isTurn places byStar byFar one usedNow laidMany finding))) (va_Qv (fun (uv : (Nat → Int64)) => uv = crsB starArms) (mB G (fun (uv : (Nat → Int64)) => Xx t a K many settings isVoted lotsNow seen keyOne keyTwo votes looked matched without trio takenStar takenAs takenSpot pairs uv spotArms isTurn places byStar byFar one usedNow laidMany finding)) A) 0 0 A := by
  refine mkx_W (by decide) (Nat.le_of_ble_eq_true rfl) ?_
  intro p e s m below meth c ls hx hb hml hr hlk hts hown hnm hv hl
  obtain ⟨hP, hK, hD, hA, hE⟩ := hv
  have hS : va_S A s.heap s.heap [] := va_S.rf
  have hl : lv_has ls 6 [(0, .ref (a (27 + 0))), (1, .ref (a (27 + 1))), (2, .ref (a (27 + 2)))] := hl
  refine lv_iconst (v := 0) hx hb dX0_crosses_0 (by decide) ?_
  refine lv_istore_n (lv' := [(3, .int 0), (0, .ref (a (27 + 0))), (1, .ref (a (27 + 1))), (2, .ref (a (27 + 2)))]) hx hb dX0_crosses_1 rfl hl (by decide) rfl (fun ls hl => ?_)
  refine lv_iload_n hx hb dX0_crosses_2 rfl (lv_at hl 0 rfl) ?_
  refine lv_iconst (v := 3) hx hb dX0_crosses_3 (by decide) ?_
  refine lv_icmp_ge (tgt := 49) hx hb dX0_crosses_4 (by decide) (fun c_1 => absurd c_1 (by decide)) (fun c_1 => ?_)
  refine lv_iload_n hx hb dX0_crosses_7 rfl (lv_at hl 0 rfl) ?_
  refine lv_iconst (v := 1) hx hb dX0_crosses_8 (by decide) ?_
  refine lv_iadd hx hb dX0_crosses_9 ?_
  refine r_top (y := 1) (by decide) ?_
  refine lv_iconst (v := 3) hx hb dX0_crosses_10 (by decide) ?_
  refine lv_irem hx hb dX0_crosses_11 (by decide) ?_
  refine r_top (y := 1) (by decide) ?_
  refine lv_istore (lv' := [(4, .int 1), (3, .int 0), (0, .ref (a (27 + 0))), (1, .ref (a (27 + 1))), (2, .ref (a (27 + 2)))]) hx hb dX0_crosses_12 hl (by decide) rfl (fun ls hl => ?_)
  refine lv_iload_n hx hb dX0_crosses_14 rfl (lv_at hl 1 rfl) ?_
  refine lv_iconst (v := 2) hx hb dX0_crosses_15 (by decide) ?_
  refine lv_iadd hx hb dX0_crosses_16 ?_
  refine r_top (y := 2) (by decide) ?_
  refine lv_iconst (v := 3) hx hb dX0_crosses_17 (by decide) ?_
  refine lv_irem hx hb dX0_crosses_18 (by decide) ?_
  refine r_top (y := 2) (by decide) ?_
  refine lv_istore (lv' := [(5, .int 2), (4, .int 1), (3, .int 0), (0, .ref (a (27 + 0))), (1, .ref (a (27 + 1))), (2, .ref (a (27 + 2)))]) hx hb dX0_crosses_19 hl (by decide) rfl (fun ls hl => ?_)
  refine lv_aload_n hx hb dX0_crosses_21 rfl (lv_at hl 5 rfl) ?_
  refine lv_iload_n hx hb dX0_crosses_22 rfl (lv_at hl 2 rfl) ?_
  refine lv_aload_n hx hb dX0_crosses_23 rfl (lv_at hl 3 rfl) ?_
  refine lv_iload hx hb dX0_crosses_24 (lv_at hl 1 rfl) ?_
  refine r_lald hx hb hK hP (27 + 0) 1 (xr_starArms (by decide)) rfl 1 (nI_q 1) (by decide) (by decide) dX0_crosses_26 ?_
  refine r_topl (y := (starArms (3 * 0 + 1))) rfl ?_
  refine lv_aload_n hx hb dX0_crosses_27 rfl (lv_at hl 4 rfl) ?_
  refine lv_iload hx hb dX0_crosses_28 (lv_at hl 0 rfl) ?_
  refine r_lald hx hb hK hP (27 + 1) 1 (xr_starArms (by decide)) rfl 2 (nI_q 2) (by decide) (by decide) dX0_crosses_30 ?_
  refine r_topl (y := (starArms (3 * 1 + 2))) rfl ?_
  refine lv_lmul hx hb dX0_crosses_31 ?_
  refine lv_aload_n hx hb dX0_crosses_32 rfl (lv_at hl 3 rfl) ?_
  refine lv_iload hx hb dX0_crosses_33 (lv_at hl 0 rfl) ?_
  refine r_lald hx hb hK hP (27 + 0) 1 (xr_starArms (by decide)) rfl 2 (nI_q 2) (by decide) (by decide) dX0_crosses_35 ?_
  refine r_topl (y := (starArms (3 * 0 + 2))) rfl ?_
  refine lv_aload_n hx hb dX0_crosses_36 rfl (lv_at hl 4 rfl) ?_
  refine lv_iload hx hb dX0_crosses_37 (lv_at hl 1 rfl) ?_
  refine r_lald hx hb hK hP (27 + 1) 1 (xr_starArms (by decide)) rfl 1 (nI_q 1) (by decide) (by decide) dX0_crosses_39 ?_
  refine r_topl (y := (starArms (3 * 1 + 1))) rfl ?_
  refine lv_lmul hx hb dX0_crosses_40 ?_
  refine lv_lsub hx hb dX0_crosses_41 ?_
  refine r_last hx hb hK hP (xD hD) hS (27 + 2) 1 (xr_starArms (by decide)) rfl 0 (nI_q 0) (by decide) (by decide) dX0_crosses_42 rfl (fun H locs hP hS => ?_)
  have hP : va_P G vwCl (Xx t a K many settings isVoted lotsNow seen keyOne keyTwo votes looked matched without trio takenStar takenAs takenSpot pairs (vp_updL starArms (3 * 2 + 0) (((starArms (3 * 0 + 1)) * (starArms (3 * 1 + 2))) - ((starArms (3 * 0 + 2)) * (starArms (3 * 1 + 1))))) spotArms isTurn places byStar byFar one usedNow laidMany finding) H := xt_starArms (by decide) (by decide) hP
  refine lv_iinc (v := 1) (lv' := [(3, .int 1), (5, .int 2), (4, .int 1), (0, .ref (a (27 + 0))), (1, .ref (a (27 + 1))), (2, .ref (a (27 + 2)))]) hx hb dX0_crosses_43 hl (k := 2) rfl (by decide) (by decide) rfl (fun ls hl => ?_)
  refine lv_goto (tgt := 2) hx hb dX0_crosses_46 (by decide) ?_
  refine lv_iload_n hx hb dX0_crosses_2 rfl (lv_at hl 0 rfl) ?_
  refine lv_iconst (v := 3) hx hb dX0_crosses_3 (by decide) ?_
  refine lv_icmp_ge (tgt := 49) hx hb dX0_crosses_4 (by decide) (fun c_2 => absurd c_2 (by decide)) (fun c_2 => ?_)
  refine lv_iload_n hx hb dX0_crosses_7 rfl (lv_at hl 0 rfl) ?_
  refine lv_iconst (v := 1) hx hb dX0_crosses_8 (by decide) ?_
  refine lv_iadd hx hb dX0_crosses_9 ?_
  refine r_top (y := 2) (by decide) ?_
  refine lv_iconst (v := 3) hx hb dX0_crosses_10 (by decide) ?_
  refine lv_irem hx hb dX0_crosses_11 (by decide) ?_
  refine r_top (y := 2) (by decide) ?_
  refine lv_istore (lv' := [(4, .int 2), (3, .int 1), (5, .int 2), (0, .ref (a (27 + 0))), (1, .ref (a (27 + 1))), (2, .ref (a (27 + 2)))]) hx hb dX0_crosses_12 hl (by decide) rfl (fun ls hl => ?_)
  refine lv_iload_n hx hb dX0_crosses_14 rfl (lv_at hl 1 rfl) ?_
  refine lv_iconst (v := 2) hx hb dX0_crosses_15 (by decide) ?_
  refine lv_iadd hx hb dX0_crosses_16 ?_
  refine r_top (y := 3) (by decide) ?_
  refine lv_iconst (v := 3) hx hb dX0_crosses_17 (by decide) ?_
  refine lv_irem hx hb dX0_crosses_18 (by decide) ?_
  refine r_top (y := 0) (by decide) ?_
  refine lv_istore (lv' := [(5, .int 0), (4, .int 2), (3, .int 1), (0, .ref (a (27 + 0))), (1, .ref (a (27 + 1))), (2, .ref (a (27 + 2)))]) hx hb dX0_crosses_19 hl (by decide) rfl (fun ls hl => ?_)
  refine lv_aload_n hx hb dX0_crosses_21 rfl (lv_at hl 5 rfl) ?_
  refine lv_iload_n hx hb dX0_crosses_22 rfl (lv_at hl 2 rfl) ?_
  refine lv_aload_n hx hb dX0_crosses_23 rfl (lv_at hl 3 rfl) ?_
  refine lv_iload hx hb dX0_crosses_24 (lv_at hl 1 rfl) ?_
  refine r_lald hx hb hK hP (27 + 0) 1 (xr_starArms (by decide)) rfl 2 (nI_q 2) (by decide) (by decide) dX0_crosses_26 ?_
  refine r_topl (y := (starArms (3 * 0 + 2))) rfl ?_
  refine lv_aload_n hx hb dX0_crosses_27 rfl (lv_at hl 4 rfl) ?_
  refine lv_iload hx hb dX0_crosses_28 (lv_at hl 0 rfl) ?_
  refine r_lald hx hb hK hP (27 + 1) 1 (xr_starArms (by decide)) rfl 0 (nI_q 0) (by decide) (by decide) dX0_crosses_30 ?_
  refine r_topl (y := (starArms (3 * 1 + 0))) rfl ?_
  refine lv_lmul hx hb dX0_crosses_31 ?_
  refine lv_aload_n hx hb dX0_crosses_32 rfl (lv_at hl 3 rfl) ?_
  refine lv_iload hx hb dX0_crosses_33 (lv_at hl 0 rfl) ?_
  refine r_lald hx hb hK hP (27 + 0) 1 (xr_starArms (by decide)) rfl 0 (nI_q 0) (by decide) (by decide) dX0_crosses_35 ?_
  refine r_topl (y := (starArms (3 * 0 + 0))) rfl ?_
  refine lv_aload_n hx hb dX0_crosses_36 rfl (lv_at hl 4 rfl) ?_
  refine lv_iload hx hb dX0_crosses_37 (lv_at hl 1 rfl) ?_
  refine r_lald hx hb hK hP (27 + 1) 1 (xr_starArms (by decide)) rfl 2 (nI_q 2) (by decide) (by decide) dX0_crosses_39 ?_
  refine r_topl (y := (starArms (3 * 1 + 2))) rfl ?_
  refine lv_lmul hx hb dX0_crosses_40 ?_
  refine lv_lsub hx hb dX0_crosses_41 ?_
  refine r_last hx hb hK hP (xD hD) hS (27 + 2) 1 (xr_starArms (by decide)) rfl 1 (nI_q 1) (by decide) (by decide) dX0_crosses_42 rfl (fun H locs hP hS => ?_)
  have hP : va_P G vwCl (Xx t a K many settings isVoted lotsNow seen keyOne keyTwo votes looked matched without trio takenStar takenAs takenSpot pairs (vp_updL (vp_updL starArms (3 * 2 + 0) (((starArms (3 * 0 + 1)) * (starArms (3 * 1 + 2))) - ((starArms (3 * 0 + 2)) * (starArms (3 * 1 + 1))))) (3 * 2 + 1) (((starArms (3 * 0 + 2)) * (starArms (3 * 1 + 0))) - ((starArms (3 * 0 + 0)) * (starArms (3 * 1 + 2))))) spotArms isTurn places byStar byFar one usedNow laidMany finding) H := xt_starArms (by decide) (by decide) hP
  refine lv_iinc (v := 2) (lv' := [(3, .int 2), (5, .int 0), (4, .int 2), (0, .ref (a (27 + 0))), (1, .ref (a (27 + 1))), (2, .ref (a (27 + 2)))]) hx hb dX0_crosses_43 hl (k := 2) rfl (by decide) (by decide) rfl (fun ls hl => ?_)
  refine lv_goto (tgt := 2) hx hb dX0_crosses_46 (by decide) ?_
  refine lv_iload_n hx hb dX0_crosses_2 rfl (lv_at hl 0 rfl) ?_
  refine lv_iconst (v := 3) hx hb dX0_crosses_3 (by decide) ?_
  refine lv_icmp_ge (tgt := 49) hx hb dX0_crosses_4 (by decide) (fun c_3 => absurd c_3 (by decide)) (fun c_3 => ?_)
  refine lv_iload_n hx hb dX0_crosses_7 rfl (lv_at hl 0 rfl) ?_
  refine lv_iconst (v := 1) hx hb dX0_crosses_8 (by decide) ?_
  refine lv_iadd hx hb dX0_crosses_9 ?_
  refine r_top (y := 3) (by decide) ?_
  refine lv_iconst (v := 3) hx hb dX0_crosses_10 (by decide) ?_
  refine lv_irem hx hb dX0_crosses_11 (by decide) ?_
  refine r_top (y := 0) (by decide) ?_
  refine lv_istore (lv' := [(4, .int 0), (3, .int 2), (5, .int 0), (0, .ref (a (27 + 0))), (1, .ref (a (27 + 1))), (2, .ref (a (27 + 2)))]) hx hb dX0_crosses_12 hl (by decide) rfl (fun ls hl => ?_)
  refine lv_iload_n hx hb dX0_crosses_14 rfl (lv_at hl 1 rfl) ?_
  refine lv_iconst (v := 2) hx hb dX0_crosses_15 (by decide) ?_
  refine lv_iadd hx hb dX0_crosses_16 ?_
  refine r_top (y := 4) (by decide) ?_
  refine lv_iconst (v := 3) hx hb dX0_crosses_17 (by decide) ?_
  refine lv_irem hx hb dX0_crosses_18 (by decide) ?_
  refine r_top (y := 1) (by decide) ?_
  refine lv_istore (lv' := [(5, .int 1), (4, .int 0), (3, .int 2), (0, .ref (a (27 + 0))), (1, .ref (a (27 + 1))), (2, .ref (a (27 + 2)))]) hx hb dX0_crosses_19 hl (by decide) rfl (fun ls hl => ?_)
  refine lv_aload_n hx hb dX0_crosses_21 rfl (lv_at hl 5 rfl) ?_
  refine lv_iload_n hx hb dX0_crosses_22 rfl (lv_at hl 2 rfl) ?_
  refine lv_aload_n hx hb dX0_crosses_23 rfl (lv_at hl 3 rfl) ?_
  refine lv_iload hx hb dX0_crosses_24 (lv_at hl 1 rfl) ?_
  refine r_lald hx hb hK hP (27 + 0) 1 (xr_starArms (by decide)) rfl 0 (nI_q 0) (by decide) (by decide) dX0_crosses_26 ?_
  refine r_topl (y := (starArms (3 * 0 + 0))) rfl ?_
  refine lv_aload_n hx hb dX0_crosses_27 rfl (lv_at hl 4 rfl) ?_
  refine lv_iload hx hb dX0_crosses_28 (lv_at hl 0 rfl) ?_
  refine r_lald hx hb hK hP (27 + 1) 1 (xr_starArms (by decide)) rfl 1 (nI_q 1) (by decide) (by decide) dX0_crosses_30 ?_
  refine r_topl (y := (starArms (3 * 1 + 1))) rfl ?_
  refine lv_lmul hx hb dX0_crosses_31 ?_
  refine lv_aload_n hx hb dX0_crosses_32 rfl (lv_at hl 3 rfl) ?_
  refine lv_iload hx hb dX0_crosses_33 (lv_at hl 0 rfl) ?_
  refine r_lald hx hb hK hP (27 + 0) 1 (xr_starArms (by decide)) rfl 1 (nI_q 1) (by decide) (by decide) dX0_crosses_35 ?_
  refine r_topl (y := (starArms (3 * 0 + 1))) rfl ?_
  refine lv_aload_n hx hb dX0_crosses_36 rfl (lv_at hl 4 rfl) ?_
  refine lv_iload hx hb dX0_crosses_37 (lv_at hl 1 rfl) ?_
  refine r_lald hx hb hK hP (27 + 1) 1 (xr_starArms (by decide)) rfl 0 (nI_q 0) (by decide) (by decide) dX0_crosses_39 ?_
  refine r_topl (y := (starArms (3 * 1 + 0))) rfl ?_
  refine lv_lmul hx hb dX0_crosses_40 ?_
  refine lv_lsub hx hb dX0_crosses_41 ?_
  refine r_last hx hb hK hP (xD hD) hS (27 + 2) 1 (xr_starArms (by decide)) rfl 2 (nI_q 2) (by decide) (by decide) dX0_crosses_42 rfl (fun H locs hP hS => ?_)
  have hP : va_P G vwCl (Xx t a K many settings isVoted lotsNow seen keyOne keyTwo votes looked matched without trio takenStar takenAs takenSpot pairs (vp_updL (vp_updL (vp_updL starArms (3 * 2 + 0) (((starArms (3 * 0 + 1)) * (starArms (3 * 1 + 2))) - ((starArms (3 * 0 + 2)) * (starArms (3 * 1 + 1))))) (3 * 2 + 1) (((starArms (3 * 0 + 2)) * (starArms (3 * 1 + 0))) - ((starArms (3 * 0 + 0)) * (starArms (3 * 1 + 2))))) (3 * 2 + 2) (((starArms (3 * 0 + 0)) * (starArms (3 * 1 + 1))) - ((starArms (3 * 0 + 1)) * (starArms (3 * 1 + 0))))) spotArms isTurn places byStar byFar one usedNow laidMany finding) H := xt_starArms (by decide) (by decide) hP
  refine lv_iinc (v := 3) (lv' := [(3, .int 3), (5, .int 1), (4, .int 0), (0, .ref (a (27 + 0))), (1, .ref (a (27 + 1))), (2, .ref (a (27 + 2)))]) hx hb dX0_crosses_43 hl (k := 2) rfl (by decide) (by decide) rfl (fun ls hl => ?_)
  refine lv_goto (tgt := 2) hx hb dX0_crosses_46 (by decide) ?_
  refine lv_iload_n hx hb dX0_crosses_2 rfl (lv_at hl 0 rfl) ?_
  refine lv_iconst (v := 3) hx hb dX0_crosses_3 (by decide) ?_
  refine lv_icmp_ge (tgt := 49) hx hb dX0_crosses_4 (by decide) (fun c_4 => ?_) (fun c_4 => absurd c_4 (by decide))
  have hP : va_P G vwCl (Xx t a K many settings isVoted lotsNow seen keyOne keyTwo votes looked matched without trio takenStar takenAs takenSpot pairs (crsB starArms) spotArms isTurn places byStar byFar one usedNow laidMany finding) H := by (unfold crsB upd3L; exact hP)
  exact W.vret hx hb hr (fun tt ht _ => ⟨⟨(crsB starArms), rfl, rfl, (show va_P G vwCl ((fun (uv : (Nat → Int64)) => Xx t a K many settings isVoted lotsNow seen keyOne keyTwo votes looked matched without trio takenStar takenAs takenSpot pairs uv spotArms isTurn places byStar byFar one usedNow laidMany finding) (crsB starArms)) tt.heap from by rw [ht]; exact hP)⟩, hS.F ht⟩) hS.2.2 dX0_crosses_49 hlk

set_option maxHeartbeats 4000000 in
theorem mx_crosses_spotArms_crsA (l : Launch) (G : va_G) (t : Nat → ClassId) (A : Nat → Prop) (a : Nat → Nat) (cs : Nat → ClassId) (K : XK) (many : (Nat → Int32)) (settings : (Nat → Int32)) (isVoted : Int32) (lotsNow : Int32) (seen : (Nat → Int32)) (keyOne : (Nat → Int32)) (keyTwo : (Nat → Int32)) (votes : (Nat → Int32)) (looked : Int32) (matched : Int32) (without : Int32) (trio : (Nat → Int32)) (takenStar : (Nat → Int32)) (takenAs : (Nat → Int32)) (takenSpot : (Nat → Int32)) (pairs : Int32) (starArms : (Nat → Int64)) (spotArms : (Nat → Int64)) (isTurn : Int32) (places : (Nat → Int32)) (byStar : (Nat → Int32)) (byFar : (Nat → Int32)) (one : (Nat → Int64)) (usedNow : (Nat → Int32)) (laidMany : (Nat → Int32)) (finding : Int32) (dir : (Nat → Int32)) : Met l yX0_crosses (ws_ yX0_crosses cX0_crosses 6 (none)) (rm_ 0 0 0 0) (va_Pc [.ref (a (31 + 0)), .ref (a 49), .ref (a (31 + 1))] (xPr G t A a cs K.L (Xx t a K many settings isVoted lotsNow seen keyOne keyTwo votes looked matched without trio takenStar takenAs takenSpot pairs starArms spotArms isTurn places byStar byFar one usedNow laidMany finding))) (va_Qv (fun (uv : (Nat → Int64)) => uv = crsA spotArms one) (mB G (fun (uv : (Nat → Int64)) => Xx t a K many settings isVoted lotsNow seen keyOne keyTwo votes looked matched without trio takenStar takenAs takenSpot pairs starArms uv isTurn places byStar byFar one usedNow laidMany finding)) A) 0 0 A := by
  refine mkx_W (by decide) (Nat.le_of_ble_eq_true rfl) ?_
  intro p e s m below meth c ls hx hb hml hr hlk hts hown hnm hv hl
  obtain ⟨hP, hK, hD, hA, hE⟩ := hv
  have hS : va_S A s.heap s.heap [] := va_S.rf
  have hl : lv_has ls 6 [(0, .ref (a (31 + 0))), (1, .ref (a 49)), (2, .ref (a (31 + 1)))] := hl
  refine lv_iconst (v := 0) hx hb dX0_crosses_0 (by decide) ?_
  refine lv_istore_n (lv' := [(3, .int 0), (0, .ref (a (31 + 0))), (1, .ref (a 49)), (2, .ref (a (31 + 1)))]) hx hb dX0_crosses_1 rfl hl (by decide) rfl (fun ls hl => ?_)
  refine lv_iload_n hx hb dX0_crosses_2 rfl (lv_at hl 0 rfl) ?_
  refine lv_iconst (v := 3) hx hb dX0_crosses_3 (by decide) ?_
  refine lv_icmp_ge (tgt := 49) hx hb dX0_crosses_4 (by decide) (fun c_1 => absurd c_1 (by decide)) (fun c_1 => ?_)
  refine lv_iload_n hx hb dX0_crosses_7 rfl (lv_at hl 0 rfl) ?_
  refine lv_iconst (v := 1) hx hb dX0_crosses_8 (by decide) ?_
  refine lv_iadd hx hb dX0_crosses_9 ?_
  refine r_top (y := 1) (by decide) ?_
  refine lv_iconst (v := 3) hx hb dX0_crosses_10 (by decide) ?_
  refine lv_irem hx hb dX0_crosses_11 (by decide) ?_
  refine r_top (y := 1) (by decide) ?_
  refine lv_istore (lv' := [(4, .int 1), (3, .int 0), (0, .ref (a (31 + 0))), (1, .ref (a 49)), (2, .ref (a (31 + 1)))]) hx hb dX0_crosses_12 hl (by decide) rfl (fun ls hl => ?_)
  refine lv_iload_n hx hb dX0_crosses_14 rfl (lv_at hl 1 rfl) ?_
  refine lv_iconst (v := 2) hx hb dX0_crosses_15 (by decide) ?_
  refine lv_iadd hx hb dX0_crosses_16 ?_
  refine r_top (y := 2) (by decide) ?_
  refine lv_iconst (v := 3) hx hb dX0_crosses_17 (by decide) ?_
  refine lv_irem hx hb dX0_crosses_18 (by decide) ?_
  refine r_top (y := 2) (by decide) ?_
  refine lv_istore (lv' := [(5, .int 2), (4, .int 1), (3, .int 0), (0, .ref (a (31 + 0))), (1, .ref (a 49)), (2, .ref (a (31 + 1)))]) hx hb dX0_crosses_19 hl (by decide) rfl (fun ls hl => ?_)
  refine lv_aload_n hx hb dX0_crosses_21 rfl (lv_at hl 5 rfl) ?_
  refine lv_iload_n hx hb dX0_crosses_22 rfl (lv_at hl 2 rfl) ?_
  refine lv_aload_n hx hb dX0_crosses_23 rfl (lv_at hl 3 rfl) ?_
  refine lv_iload hx hb dX0_crosses_24 (lv_at hl 1 rfl) ?_
  refine r_lald hx hb hK hP (31 + 0) 1 (xr_spotArms (by decide)) rfl 1 (nI_q 1) (by decide) (by decide) dX0_crosses_26 ?_
  refine r_topl (y := (spotArms (3 * 0 + 1))) rfl ?_
  refine lv_aload_n hx hb dX0_crosses_27 rfl (lv_at hl 4 rfl) ?_
  refine lv_iload hx hb dX0_crosses_28 (lv_at hl 0 rfl) ?_
  refine r_lald hx hb hK hP 49 1 xk_one rfl (f := one) 2 (nI_q 2) (by decide) (by decide) dX0_crosses_30 ?_
  refine lv_lmul hx hb dX0_crosses_31 ?_
  refine lv_aload_n hx hb dX0_crosses_32 rfl (lv_at hl 3 rfl) ?_
  refine lv_iload hx hb dX0_crosses_33 (lv_at hl 0 rfl) ?_
  refine r_lald hx hb hK hP (31 + 0) 1 (xr_spotArms (by decide)) rfl 2 (nI_q 2) (by decide) (by decide) dX0_crosses_35 ?_
  refine r_topl (y := (spotArms (3 * 0 + 2))) rfl ?_
  refine lv_aload_n hx hb dX0_crosses_36 rfl (lv_at hl 4 rfl) ?_
  refine lv_iload hx hb dX0_crosses_37 (lv_at hl 1 rfl) ?_
  refine r_lald hx hb hK hP 49 1 xk_one rfl (f := one) 1 (nI_q 1) (by decide) (by decide) dX0_crosses_39 ?_
  refine lv_lmul hx hb dX0_crosses_40 ?_
  refine lv_lsub hx hb dX0_crosses_41 ?_
  refine r_last hx hb hK hP (xD hD) hS (31 + 1) 1 (xr_spotArms (by decide)) rfl 0 (nI_q 0) (by decide) (by decide) dX0_crosses_42 rfl (fun H locs hP hS => ?_)
  have hP : va_P G vwCl (Xx t a K many settings isVoted lotsNow seen keyOne keyTwo votes looked matched without trio takenStar takenAs takenSpot pairs starArms (vp_updL spotArms (3 * 1 + 0) (((spotArms (3 * 0 + 1)) * (one 2)) - ((spotArms (3 * 0 + 2)) * (one 1)))) isTurn places byStar byFar one usedNow laidMany finding) H := xt_spotArms (by decide) (by decide) hP
  refine lv_iinc (v := 1) (lv' := [(3, .int 1), (5, .int 2), (4, .int 1), (0, .ref (a (31 + 0))), (1, .ref (a 49)), (2, .ref (a (31 + 1)))]) hx hb dX0_crosses_43 hl (k := 2) rfl (by decide) (by decide) rfl (fun ls hl => ?_)
  refine lv_goto (tgt := 2) hx hb dX0_crosses_46 (by decide) ?_
  refine lv_iload_n hx hb dX0_crosses_2 rfl (lv_at hl 0 rfl) ?_
  refine lv_iconst (v := 3) hx hb dX0_crosses_3 (by decide) ?_
  refine lv_icmp_ge (tgt := 49) hx hb dX0_crosses_4 (by decide) (fun c_2 => absurd c_2 (by decide)) (fun c_2 => ?_)
  refine lv_iload_n hx hb dX0_crosses_7 rfl (lv_at hl 0 rfl) ?_
  refine lv_iconst (v := 1) hx hb dX0_crosses_8 (by decide) ?_
  refine lv_iadd hx hb dX0_crosses_9 ?_
  refine r_top (y := 2) (by decide) ?_
  refine lv_iconst (v := 3) hx hb dX0_crosses_10 (by decide) ?_
  refine lv_irem hx hb dX0_crosses_11 (by decide) ?_
  refine r_top (y := 2) (by decide) ?_
  refine lv_istore (lv' := [(4, .int 2), (3, .int 1), (5, .int 2), (0, .ref (a (31 + 0))), (1, .ref (a 49)), (2, .ref (a (31 + 1)))]) hx hb dX0_crosses_12 hl (by decide) rfl (fun ls hl => ?_)
  refine lv_iload_n hx hb dX0_crosses_14 rfl (lv_at hl 1 rfl) ?_
  refine lv_iconst (v := 2) hx hb dX0_crosses_15 (by decide) ?_
  refine lv_iadd hx hb dX0_crosses_16 ?_
  refine r_top (y := 3) (by decide) ?_
  refine lv_iconst (v := 3) hx hb dX0_crosses_17 (by decide) ?_
  refine lv_irem hx hb dX0_crosses_18 (by decide) ?_
  refine r_top (y := 0) (by decide) ?_
  refine lv_istore (lv' := [(5, .int 0), (4, .int 2), (3, .int 1), (0, .ref (a (31 + 0))), (1, .ref (a 49)), (2, .ref (a (31 + 1)))]) hx hb dX0_crosses_19 hl (by decide) rfl (fun ls hl => ?_)
  refine lv_aload_n hx hb dX0_crosses_21 rfl (lv_at hl 5 rfl) ?_
  refine lv_iload_n hx hb dX0_crosses_22 rfl (lv_at hl 2 rfl) ?_
  refine lv_aload_n hx hb dX0_crosses_23 rfl (lv_at hl 3 rfl) ?_
  refine lv_iload hx hb dX0_crosses_24 (lv_at hl 1 rfl) ?_
  refine r_lald hx hb hK hP (31 + 0) 1 (xr_spotArms (by decide)) rfl 2 (nI_q 2) (by decide) (by decide) dX0_crosses_26 ?_
  refine r_topl (y := (spotArms (3 * 0 + 2))) rfl ?_
  refine lv_aload_n hx hb dX0_crosses_27 rfl (lv_at hl 4 rfl) ?_
  refine lv_iload hx hb dX0_crosses_28 (lv_at hl 0 rfl) ?_
  refine r_lald hx hb hK hP 49 1 xk_one rfl (f := one) 0 (nI_q 0) (by decide) (by decide) dX0_crosses_30 ?_
  refine lv_lmul hx hb dX0_crosses_31 ?_
  refine lv_aload_n hx hb dX0_crosses_32 rfl (lv_at hl 3 rfl) ?_
  refine lv_iload hx hb dX0_crosses_33 (lv_at hl 0 rfl) ?_
  refine r_lald hx hb hK hP (31 + 0) 1 (xr_spotArms (by decide)) rfl 0 (nI_q 0) (by decide) (by decide) dX0_crosses_35 ?_
  refine r_topl (y := (spotArms (3 * 0 + 0))) rfl ?_
  refine lv_aload_n hx hb dX0_crosses_36 rfl (lv_at hl 4 rfl) ?_
  refine lv_iload hx hb dX0_crosses_37 (lv_at hl 1 rfl) ?_
  refine r_lald hx hb hK hP 49 1 xk_one rfl (f := one) 2 (nI_q 2) (by decide) (by decide) dX0_crosses_39 ?_
  refine lv_lmul hx hb dX0_crosses_40 ?_
  refine lv_lsub hx hb dX0_crosses_41 ?_
  refine r_last hx hb hK hP (xD hD) hS (31 + 1) 1 (xr_spotArms (by decide)) rfl 1 (nI_q 1) (by decide) (by decide) dX0_crosses_42 rfl (fun H locs hP hS => ?_)
  have hP : va_P G vwCl (Xx t a K many settings isVoted lotsNow seen keyOne keyTwo votes looked matched without trio takenStar takenAs takenSpot pairs starArms (vp_updL (vp_updL spotArms (3 * 1 + 0) (((spotArms (3 * 0 + 1)) * (one 2)) - ((spotArms (3 * 0 + 2)) * (one 1)))) (3 * 1 + 1) (((spotArms (3 * 0 + 2)) * (one 0)) - ((spotArms (3 * 0 + 0)) * (one 2)))) isTurn places byStar byFar one usedNow laidMany finding) H := xt_spotArms (by decide) (by decide) hP
  refine lv_iinc (v := 2) (lv' := [(3, .int 2), (5, .int 0), (4, .int 2), (0, .ref (a (31 + 0))), (1, .ref (a 49)), (2, .ref (a (31 + 1)))]) hx hb dX0_crosses_43 hl (k := 2) rfl (by decide) (by decide) rfl (fun ls hl => ?_)
  refine lv_goto (tgt := 2) hx hb dX0_crosses_46 (by decide) ?_
  refine lv_iload_n hx hb dX0_crosses_2 rfl (lv_at hl 0 rfl) ?_
  refine lv_iconst (v := 3) hx hb dX0_crosses_3 (by decide) ?_
  refine lv_icmp_ge (tgt := 49) hx hb dX0_crosses_4 (by decide) (fun c_3 => absurd c_3 (by decide)) (fun c_3 => ?_)
  refine lv_iload_n hx hb dX0_crosses_7 rfl (lv_at hl 0 rfl) ?_
  refine lv_iconst (v := 1) hx hb dX0_crosses_8 (by decide) ?_
  refine lv_iadd hx hb dX0_crosses_9 ?_
  refine r_top (y := 3) (by decide) ?_
  refine lv_iconst (v := 3) hx hb dX0_crosses_10 (by decide) ?_
  refine lv_irem hx hb dX0_crosses_11 (by decide) ?_
  refine r_top (y := 0) (by decide) ?_
  refine lv_istore (lv' := [(4, .int 0), (3, .int 2), (5, .int 0), (0, .ref (a (31 + 0))), (1, .ref (a 49)), (2, .ref (a (31 + 1)))]) hx hb dX0_crosses_12 hl (by decide) rfl (fun ls hl => ?_)
  refine lv_iload_n hx hb dX0_crosses_14 rfl (lv_at hl 1 rfl) ?_
  refine lv_iconst (v := 2) hx hb dX0_crosses_15 (by decide) ?_
  refine lv_iadd hx hb dX0_crosses_16 ?_
  refine r_top (y := 4) (by decide) ?_
  refine lv_iconst (v := 3) hx hb dX0_crosses_17 (by decide) ?_
  refine lv_irem hx hb dX0_crosses_18 (by decide) ?_
  refine r_top (y := 1) (by decide) ?_
  refine lv_istore (lv' := [(5, .int 1), (4, .int 0), (3, .int 2), (0, .ref (a (31 + 0))), (1, .ref (a 49)), (2, .ref (a (31 + 1)))]) hx hb dX0_crosses_19 hl (by decide) rfl (fun ls hl => ?_)
  refine lv_aload_n hx hb dX0_crosses_21 rfl (lv_at hl 5 rfl) ?_
  refine lv_iload_n hx hb dX0_crosses_22 rfl (lv_at hl 2 rfl) ?_
  refine lv_aload_n hx hb dX0_crosses_23 rfl (lv_at hl 3 rfl) ?_
  refine lv_iload hx hb dX0_crosses_24 (lv_at hl 1 rfl) ?_
  refine r_lald hx hb hK hP (31 + 0) 1 (xr_spotArms (by decide)) rfl 0 (nI_q 0) (by decide) (by decide) dX0_crosses_26 ?_
  refine r_topl (y := (spotArms (3 * 0 + 0))) rfl ?_
  refine lv_aload_n hx hb dX0_crosses_27 rfl (lv_at hl 4 rfl) ?_
  refine lv_iload hx hb dX0_crosses_28 (lv_at hl 0 rfl) ?_
  refine r_lald hx hb hK hP 49 1 xk_one rfl (f := one) 1 (nI_q 1) (by decide) (by decide) dX0_crosses_30 ?_
  refine lv_lmul hx hb dX0_crosses_31 ?_
  refine lv_aload_n hx hb dX0_crosses_32 rfl (lv_at hl 3 rfl) ?_
  refine lv_iload hx hb dX0_crosses_33 (lv_at hl 0 rfl) ?_
  refine r_lald hx hb hK hP (31 + 0) 1 (xr_spotArms (by decide)) rfl 1 (nI_q 1) (by decide) (by decide) dX0_crosses_35 ?_
  refine r_topl (y := (spotArms (3 * 0 + 1))) rfl ?_
  refine lv_aload_n hx hb dX0_crosses_36 rfl (lv_at hl 4 rfl) ?_
  refine lv_iload hx hb dX0_crosses_37 (lv_at hl 1 rfl) ?_
  refine r_lald hx hb hK hP 49 1 xk_one rfl (f := one) 0 (nI_q 0) (by decide) (by decide) dX0_crosses_39 ?_
  refine lv_lmul hx hb dX0_crosses_40 ?_
  refine lv_lsub hx hb dX0_crosses_41 ?_
  refine r_last hx hb hK hP (xD hD) hS (31 + 1) 1 (xr_spotArms (by decide)) rfl 2 (nI_q 2) (by decide) (by decide) dX0_crosses_42 rfl (fun H locs hP hS => ?_)
  have hP : va_P G vwCl (Xx t a K many settings isVoted lotsNow seen keyOne keyTwo votes looked matched without trio takenStar takenAs takenSpot pairs starArms (vp_updL (vp_updL (vp_updL spotArms (3 * 1 + 0) (((spotArms (3 * 0 + 1)) * (one 2)) - ((spotArms (3 * 0 + 2)) * (one 1)))) (3 * 1 + 1) (((spotArms (3 * 0 + 2)) * (one 0)) - ((spotArms (3 * 0 + 0)) * (one 2)))) (3 * 1 + 2) (((spotArms (3 * 0 + 0)) * (one 1)) - ((spotArms (3 * 0 + 1)) * (one 0)))) isTurn places byStar byFar one usedNow laidMany finding) H := xt_spotArms (by decide) (by decide) hP
  refine lv_iinc (v := 3) (lv' := [(3, .int 3), (5, .int 1), (4, .int 0), (0, .ref (a (31 + 0))), (1, .ref (a 49)), (2, .ref (a (31 + 1)))]) hx hb dX0_crosses_43 hl (k := 2) rfl (by decide) (by decide) rfl (fun ls hl => ?_)
  refine lv_goto (tgt := 2) hx hb dX0_crosses_46 (by decide) ?_
  refine lv_iload_n hx hb dX0_crosses_2 rfl (lv_at hl 0 rfl) ?_
  refine lv_iconst (v := 3) hx hb dX0_crosses_3 (by decide) ?_
  refine lv_icmp_ge (tgt := 49) hx hb dX0_crosses_4 (by decide) (fun c_4 => ?_) (fun c_4 => absurd c_4 (by decide))
  have hP : va_P G vwCl (Xx t a K many settings isVoted lotsNow seen keyOne keyTwo votes looked matched without trio takenStar takenAs takenSpot pairs starArms (crsA spotArms one) isTurn places byStar byFar one usedNow laidMany finding) H := by (unfold crsA upd3L; exact hP)
  exact W.vret hx hb hr (fun tt ht _ => ⟨⟨(crsA spotArms one), rfl, rfl, (show va_P G vwCl ((fun (uv : (Nat → Int64)) => Xx t a K many settings isVoted lotsNow seen keyOne keyTwo votes looked matched without trio takenStar takenAs takenSpot pairs starArms uv isTurn places byStar byFar one usedNow laidMany finding) (crsA spotArms one)) tt.heap from by rw [ht]; exact hP)⟩, hS.F ht⟩) hS.2.2 dX0_crosses_49 hlk

set_option maxHeartbeats 4000000 in
theorem mx_crosses_spotArms_crsB (l : Launch) (G : va_G) (t : Nat → ClassId) (A : Nat → Prop) (a : Nat → Nat) (cs : Nat → ClassId) (K : XK) (many : (Nat → Int32)) (settings : (Nat → Int32)) (isVoted : Int32) (lotsNow : Int32) (seen : (Nat → Int32)) (keyOne : (Nat → Int32)) (keyTwo : (Nat → Int32)) (votes : (Nat → Int32)) (looked : Int32) (matched : Int32) (without : Int32) (trio : (Nat → Int32)) (takenStar : (Nat → Int32)) (takenAs : (Nat → Int32)) (takenSpot : (Nat → Int32)) (pairs : Int32) (starArms : (Nat → Int64)) (spotArms : (Nat → Int64)) (isTurn : Int32) (places : (Nat → Int32)) (byStar : (Nat → Int32)) (byFar : (Nat → Int32)) (one : (Nat → Int64)) (usedNow : (Nat → Int32)) (laidMany : (Nat → Int32)) (finding : Int32) (dir : (Nat → Int32)) : Met l yX0_crosses (ws_ yX0_crosses cX0_crosses 6 (none)) (rm_ 0 0 0 0) (va_Pc [.ref (a (31 + 0)), .ref (a (31 + 1)), .ref (a (31 + 2))] (xPr G t A a cs K.L (Xx t a K many settings isVoted lotsNow seen keyOne keyTwo votes looked matched without trio takenStar takenAs takenSpot pairs starArms spotArms isTurn places byStar byFar one usedNow laidMany finding))) (va_Qv (fun (uv : (Nat → Int64)) => uv = crsB spotArms) (mB G (fun (uv : (Nat → Int64)) => Xx t a K many settings isVoted lotsNow seen keyOne keyTwo votes looked matched without trio takenStar takenAs takenSpot pairs starArms uv isTurn places byStar byFar one usedNow laidMany finding)) A) 0 0 A := by
  refine mkx_W (by decide) (Nat.le_of_ble_eq_true rfl) ?_
  intro p e s m below meth c ls hx hb hml hr hlk hts hown hnm hv hl
  obtain ⟨hP, hK, hD, hA, hE⟩ := hv
  have hS : va_S A s.heap s.heap [] := va_S.rf
  have hl : lv_has ls 6 [(0, .ref (a (31 + 0))), (1, .ref (a (31 + 1))), (2, .ref (a (31 + 2)))] := hl
  refine lv_iconst (v := 0) hx hb dX0_crosses_0 (by decide) ?_
  refine lv_istore_n (lv' := [(3, .int 0), (0, .ref (a (31 + 0))), (1, .ref (a (31 + 1))), (2, .ref (a (31 + 2)))]) hx hb dX0_crosses_1 rfl hl (by decide) rfl (fun ls hl => ?_)
  refine lv_iload_n hx hb dX0_crosses_2 rfl (lv_at hl 0 rfl) ?_
  refine lv_iconst (v := 3) hx hb dX0_crosses_3 (by decide) ?_
  refine lv_icmp_ge (tgt := 49) hx hb dX0_crosses_4 (by decide) (fun c_1 => absurd c_1 (by decide)) (fun c_1 => ?_)
  refine lv_iload_n hx hb dX0_crosses_7 rfl (lv_at hl 0 rfl) ?_
  refine lv_iconst (v := 1) hx hb dX0_crosses_8 (by decide) ?_
  refine lv_iadd hx hb dX0_crosses_9 ?_
  refine r_top (y := 1) (by decide) ?_
  refine lv_iconst (v := 3) hx hb dX0_crosses_10 (by decide) ?_
  refine lv_irem hx hb dX0_crosses_11 (by decide) ?_
  refine r_top (y := 1) (by decide) ?_
  refine lv_istore (lv' := [(4, .int 1), (3, .int 0), (0, .ref (a (31 + 0))), (1, .ref (a (31 + 1))), (2, .ref (a (31 + 2)))]) hx hb dX0_crosses_12 hl (by decide) rfl (fun ls hl => ?_)
  refine lv_iload_n hx hb dX0_crosses_14 rfl (lv_at hl 1 rfl) ?_
  refine lv_iconst (v := 2) hx hb dX0_crosses_15 (by decide) ?_
  refine lv_iadd hx hb dX0_crosses_16 ?_
  refine r_top (y := 2) (by decide) ?_
  refine lv_iconst (v := 3) hx hb dX0_crosses_17 (by decide) ?_
  refine lv_irem hx hb dX0_crosses_18 (by decide) ?_
  refine r_top (y := 2) (by decide) ?_
  refine lv_istore (lv' := [(5, .int 2), (4, .int 1), (3, .int 0), (0, .ref (a (31 + 0))), (1, .ref (a (31 + 1))), (2, .ref (a (31 + 2)))]) hx hb dX0_crosses_19 hl (by decide) rfl (fun ls hl => ?_)
  refine lv_aload_n hx hb dX0_crosses_21 rfl (lv_at hl 5 rfl) ?_
  refine lv_iload_n hx hb dX0_crosses_22 rfl (lv_at hl 2 rfl) ?_
  refine lv_aload_n hx hb dX0_crosses_23 rfl (lv_at hl 3 rfl) ?_
  refine lv_iload hx hb dX0_crosses_24 (lv_at hl 1 rfl) ?_
  refine r_lald hx hb hK hP (31 + 0) 1 (xr_spotArms (by decide)) rfl 1 (nI_q 1) (by decide) (by decide) dX0_crosses_26 ?_
  refine r_topl (y := (spotArms (3 * 0 + 1))) rfl ?_
  refine lv_aload_n hx hb dX0_crosses_27 rfl (lv_at hl 4 rfl) ?_
  refine lv_iload hx hb dX0_crosses_28 (lv_at hl 0 rfl) ?_
  refine r_lald hx hb hK hP (31 + 1) 1 (xr_spotArms (by decide)) rfl 2 (nI_q 2) (by decide) (by decide) dX0_crosses_30 ?_
  refine r_topl (y := (spotArms (3 * 1 + 2))) rfl ?_
  refine lv_lmul hx hb dX0_crosses_31 ?_
  refine lv_aload_n hx hb dX0_crosses_32 rfl (lv_at hl 3 rfl) ?_
  refine lv_iload hx hb dX0_crosses_33 (lv_at hl 0 rfl) ?_
  refine r_lald hx hb hK hP (31 + 0) 1 (xr_spotArms (by decide)) rfl 2 (nI_q 2) (by decide) (by decide) dX0_crosses_35 ?_
  refine r_topl (y := (spotArms (3 * 0 + 2))) rfl ?_
  refine lv_aload_n hx hb dX0_crosses_36 rfl (lv_at hl 4 rfl) ?_
  refine lv_iload hx hb dX0_crosses_37 (lv_at hl 1 rfl) ?_
  refine r_lald hx hb hK hP (31 + 1) 1 (xr_spotArms (by decide)) rfl 1 (nI_q 1) (by decide) (by decide) dX0_crosses_39 ?_
  refine r_topl (y := (spotArms (3 * 1 + 1))) rfl ?_
  refine lv_lmul hx hb dX0_crosses_40 ?_
  refine lv_lsub hx hb dX0_crosses_41 ?_
  refine r_last hx hb hK hP (xD hD) hS (31 + 2) 1 (xr_spotArms (by decide)) rfl 0 (nI_q 0) (by decide) (by decide) dX0_crosses_42 rfl (fun H locs hP hS => ?_)
  have hP : va_P G vwCl (Xx t a K many settings isVoted lotsNow seen keyOne keyTwo votes looked matched without trio takenStar takenAs takenSpot pairs starArms (vp_updL spotArms (3 * 2 + 0) (((spotArms (3 * 0 + 1)) * (spotArms (3 * 1 + 2))) - ((spotArms (3 * 0 + 2)) * (spotArms (3 * 1 + 1))))) isTurn places byStar byFar one usedNow laidMany finding) H := xt_spotArms (by decide) (by decide) hP
  refine lv_iinc (v := 1) (lv' := [(3, .int 1), (5, .int 2), (4, .int 1), (0, .ref (a (31 + 0))), (1, .ref (a (31 + 1))), (2, .ref (a (31 + 2)))]) hx hb dX0_crosses_43 hl (k := 2) rfl (by decide) (by decide) rfl (fun ls hl => ?_)
  refine lv_goto (tgt := 2) hx hb dX0_crosses_46 (by decide) ?_
  refine lv_iload_n hx hb dX0_crosses_2 rfl (lv_at hl 0 rfl) ?_
  refine lv_iconst (v := 3) hx hb dX0_crosses_3 (by decide) ?_
  refine lv_icmp_ge (tgt := 49) hx hb dX0_crosses_4 (by decide) (fun c_2 => absurd c_2 (by decide)) (fun c_2 => ?_)
  refine lv_iload_n hx hb dX0_crosses_7 rfl (lv_at hl 0 rfl) ?_
  refine lv_iconst (v := 1) hx hb dX0_crosses_8 (by decide) ?_
  refine lv_iadd hx hb dX0_crosses_9 ?_
  refine r_top (y := 2) (by decide) ?_
  refine lv_iconst (v := 3) hx hb dX0_crosses_10 (by decide) ?_
  refine lv_irem hx hb dX0_crosses_11 (by decide) ?_
  refine r_top (y := 2) (by decide) ?_
  refine lv_istore (lv' := [(4, .int 2), (3, .int 1), (5, .int 2), (0, .ref (a (31 + 0))), (1, .ref (a (31 + 1))), (2, .ref (a (31 + 2)))]) hx hb dX0_crosses_12 hl (by decide) rfl (fun ls hl => ?_)
  refine lv_iload_n hx hb dX0_crosses_14 rfl (lv_at hl 1 rfl) ?_
  refine lv_iconst (v := 2) hx hb dX0_crosses_15 (by decide) ?_
  refine lv_iadd hx hb dX0_crosses_16 ?_
  refine r_top (y := 3) (by decide) ?_
  refine lv_iconst (v := 3) hx hb dX0_crosses_17 (by decide) ?_
  refine lv_irem hx hb dX0_crosses_18 (by decide) ?_
  refine r_top (y := 0) (by decide) ?_
  refine lv_istore (lv' := [(5, .int 0), (4, .int 2), (3, .int 1), (0, .ref (a (31 + 0))), (1, .ref (a (31 + 1))), (2, .ref (a (31 + 2)))]) hx hb dX0_crosses_19 hl (by decide) rfl (fun ls hl => ?_)
  refine lv_aload_n hx hb dX0_crosses_21 rfl (lv_at hl 5 rfl) ?_
  refine lv_iload_n hx hb dX0_crosses_22 rfl (lv_at hl 2 rfl) ?_
  refine lv_aload_n hx hb dX0_crosses_23 rfl (lv_at hl 3 rfl) ?_
  refine lv_iload hx hb dX0_crosses_24 (lv_at hl 1 rfl) ?_
  refine r_lald hx hb hK hP (31 + 0) 1 (xr_spotArms (by decide)) rfl 2 (nI_q 2) (by decide) (by decide) dX0_crosses_26 ?_
  refine r_topl (y := (spotArms (3 * 0 + 2))) rfl ?_
  refine lv_aload_n hx hb dX0_crosses_27 rfl (lv_at hl 4 rfl) ?_
  refine lv_iload hx hb dX0_crosses_28 (lv_at hl 0 rfl) ?_
  refine r_lald hx hb hK hP (31 + 1) 1 (xr_spotArms (by decide)) rfl 0 (nI_q 0) (by decide) (by decide) dX0_crosses_30 ?_
  refine r_topl (y := (spotArms (3 * 1 + 0))) rfl ?_
  refine lv_lmul hx hb dX0_crosses_31 ?_
  refine lv_aload_n hx hb dX0_crosses_32 rfl (lv_at hl 3 rfl) ?_
  refine lv_iload hx hb dX0_crosses_33 (lv_at hl 0 rfl) ?_
  refine r_lald hx hb hK hP (31 + 0) 1 (xr_spotArms (by decide)) rfl 0 (nI_q 0) (by decide) (by decide) dX0_crosses_35 ?_
  refine r_topl (y := (spotArms (3 * 0 + 0))) rfl ?_
  refine lv_aload_n hx hb dX0_crosses_36 rfl (lv_at hl 4 rfl) ?_
  refine lv_iload hx hb dX0_crosses_37 (lv_at hl 1 rfl) ?_
  refine r_lald hx hb hK hP (31 + 1) 1 (xr_spotArms (by decide)) rfl 2 (nI_q 2) (by decide) (by decide) dX0_crosses_39 ?_
  refine r_topl (y := (spotArms (3 * 1 + 2))) rfl ?_
  refine lv_lmul hx hb dX0_crosses_40 ?_
  refine lv_lsub hx hb dX0_crosses_41 ?_
  refine r_last hx hb hK hP (xD hD) hS (31 + 2) 1 (xr_spotArms (by decide)) rfl 1 (nI_q 1) (by decide) (by decide) dX0_crosses_42 rfl (fun H locs hP hS => ?_)
  have hP : va_P G vwCl (Xx t a K many settings isVoted lotsNow seen keyOne keyTwo votes looked matched without trio takenStar takenAs takenSpot pairs starArms (vp_updL (vp_updL spotArms (3 * 2 + 0) (((spotArms (3 * 0 + 1)) * (spotArms (3 * 1 + 2))) - ((spotArms (3 * 0 + 2)) * (spotArms (3 * 1 + 1))))) (3 * 2 + 1) (((spotArms (3 * 0 + 2)) * (spotArms (3 * 1 + 0))) - ((spotArms (3 * 0 + 0)) * (spotArms (3 * 1 + 2))))) isTurn places byStar byFar one usedNow laidMany finding) H := xt_spotArms (by decide) (by decide) hP
  refine lv_iinc (v := 2) (lv' := [(3, .int 2), (5, .int 0), (4, .int 2), (0, .ref (a (31 + 0))), (1, .ref (a (31 + 1))), (2, .ref (a (31 + 2)))]) hx hb dX0_crosses_43 hl (k := 2) rfl (by decide) (by decide) rfl (fun ls hl => ?_)
  refine lv_goto (tgt := 2) hx hb dX0_crosses_46 (by decide) ?_
  refine lv_iload_n hx hb dX0_crosses_2 rfl (lv_at hl 0 rfl) ?_
  refine lv_iconst (v := 3) hx hb dX0_crosses_3 (by decide) ?_
  refine lv_icmp_ge (tgt := 49) hx hb dX0_crosses_4 (by decide) (fun c_3 => absurd c_3 (by decide)) (fun c_3 => ?_)
  refine lv_iload_n hx hb dX0_crosses_7 rfl (lv_at hl 0 rfl) ?_
  refine lv_iconst (v := 1) hx hb dX0_crosses_8 (by decide) ?_
  refine lv_iadd hx hb dX0_crosses_9 ?_
  refine r_top (y := 3) (by decide) ?_
  refine lv_iconst (v := 3) hx hb dX0_crosses_10 (by decide) ?_
  refine lv_irem hx hb dX0_crosses_11 (by decide) ?_
  refine r_top (y := 0) (by decide) ?_
  refine lv_istore (lv' := [(4, .int 0), (3, .int 2), (5, .int 0), (0, .ref (a (31 + 0))), (1, .ref (a (31 + 1))), (2, .ref (a (31 + 2)))]) hx hb dX0_crosses_12 hl (by decide) rfl (fun ls hl => ?_)
  refine lv_iload_n hx hb dX0_crosses_14 rfl (lv_at hl 1 rfl) ?_
  refine lv_iconst (v := 2) hx hb dX0_crosses_15 (by decide) ?_
  refine lv_iadd hx hb dX0_crosses_16 ?_
  refine r_top (y := 4) (by decide) ?_
  refine lv_iconst (v := 3) hx hb dX0_crosses_17 (by decide) ?_
  refine lv_irem hx hb dX0_crosses_18 (by decide) ?_
  refine r_top (y := 1) (by decide) ?_
  refine lv_istore (lv' := [(5, .int 1), (4, .int 0), (3, .int 2), (0, .ref (a (31 + 0))), (1, .ref (a (31 + 1))), (2, .ref (a (31 + 2)))]) hx hb dX0_crosses_19 hl (by decide) rfl (fun ls hl => ?_)
  refine lv_aload_n hx hb dX0_crosses_21 rfl (lv_at hl 5 rfl) ?_
  refine lv_iload_n hx hb dX0_crosses_22 rfl (lv_at hl 2 rfl) ?_
  refine lv_aload_n hx hb dX0_crosses_23 rfl (lv_at hl 3 rfl) ?_
  refine lv_iload hx hb dX0_crosses_24 (lv_at hl 1 rfl) ?_
  refine r_lald hx hb hK hP (31 + 0) 1 (xr_spotArms (by decide)) rfl 0 (nI_q 0) (by decide) (by decide) dX0_crosses_26 ?_
  refine r_topl (y := (spotArms (3 * 0 + 0))) rfl ?_
  refine lv_aload_n hx hb dX0_crosses_27 rfl (lv_at hl 4 rfl) ?_
  refine lv_iload hx hb dX0_crosses_28 (lv_at hl 0 rfl) ?_
  refine r_lald hx hb hK hP (31 + 1) 1 (xr_spotArms (by decide)) rfl 1 (nI_q 1) (by decide) (by decide) dX0_crosses_30 ?_
  refine r_topl (y := (spotArms (3 * 1 + 1))) rfl ?_
  refine lv_lmul hx hb dX0_crosses_31 ?_
  refine lv_aload_n hx hb dX0_crosses_32 rfl (lv_at hl 3 rfl) ?_
  refine lv_iload hx hb dX0_crosses_33 (lv_at hl 0 rfl) ?_
  refine r_lald hx hb hK hP (31 + 0) 1 (xr_spotArms (by decide)) rfl 1 (nI_q 1) (by decide) (by decide) dX0_crosses_35 ?_
  refine r_topl (y := (spotArms (3 * 0 + 1))) rfl ?_
  refine lv_aload_n hx hb dX0_crosses_36 rfl (lv_at hl 4 rfl) ?_
  refine lv_iload hx hb dX0_crosses_37 (lv_at hl 1 rfl) ?_
  refine r_lald hx hb hK hP (31 + 1) 1 (xr_spotArms (by decide)) rfl 0 (nI_q 0) (by decide) (by decide) dX0_crosses_39 ?_
  refine r_topl (y := (spotArms (3 * 1 + 0))) rfl ?_
  refine lv_lmul hx hb dX0_crosses_40 ?_
  refine lv_lsub hx hb dX0_crosses_41 ?_
  refine r_last hx hb hK hP (xD hD) hS (31 + 2) 1 (xr_spotArms (by decide)) rfl 2 (nI_q 2) (by decide) (by decide) dX0_crosses_42 rfl (fun H locs hP hS => ?_)
  have hP : va_P G vwCl (Xx t a K many settings isVoted lotsNow seen keyOne keyTwo votes looked matched without trio takenStar takenAs takenSpot pairs starArms (vp_updL (vp_updL (vp_updL spotArms (3 * 2 + 0) (((spotArms (3 * 0 + 1)) * (spotArms (3 * 1 + 2))) - ((spotArms (3 * 0 + 2)) * (spotArms (3 * 1 + 1))))) (3 * 2 + 1) (((spotArms (3 * 0 + 2)) * (spotArms (3 * 1 + 0))) - ((spotArms (3 * 0 + 0)) * (spotArms (3 * 1 + 2))))) (3 * 2 + 2) (((spotArms (3 * 0 + 0)) * (spotArms (3 * 1 + 1))) - ((spotArms (3 * 0 + 1)) * (spotArms (3 * 1 + 0))))) isTurn places byStar byFar one usedNow laidMany finding) H := xt_spotArms (by decide) (by decide) hP
  refine lv_iinc (v := 3) (lv' := [(3, .int 3), (5, .int 1), (4, .int 0), (0, .ref (a (31 + 0))), (1, .ref (a (31 + 1))), (2, .ref (a (31 + 2)))]) hx hb dX0_crosses_43 hl (k := 2) rfl (by decide) (by decide) rfl (fun ls hl => ?_)
  refine lv_goto (tgt := 2) hx hb dX0_crosses_46 (by decide) ?_
  refine lv_iload_n hx hb dX0_crosses_2 rfl (lv_at hl 0 rfl) ?_
  refine lv_iconst (v := 3) hx hb dX0_crosses_3 (by decide) ?_
  refine lv_icmp_ge (tgt := 49) hx hb dX0_crosses_4 (by decide) (fun c_4 => ?_) (fun c_4 => absurd c_4 (by decide))
  have hP : va_P G vwCl (Xx t a K many settings isVoted lotsNow seen keyOne keyTwo votes looked matched without trio takenStar takenAs takenSpot pairs starArms (crsB spotArms) isTurn places byStar byFar one usedNow laidMany finding) H := by (unfold crsB upd3L; exact hP)
  exact W.vret hx hb hr (fun tt ht _ => ⟨⟨(crsB spotArms), rfl, rfl, (show va_P G vwCl ((fun (uv : (Nat → Int64)) => Xx t a K many settings isVoted lotsNow seen keyOne keyTwo votes looked matched without trio takenStar takenAs takenSpot pairs starArms uv isTurn places byStar byFar one usedNow laidMany finding) (crsB spotArms)) tt.heap from by rw [ht]; exact hP)⟩, hS.F ht⟩) hS.2.2 dX0_crosses_49 hlk

set_option maxHeartbeats 4000000 in
theorem mx_arms_starArms (l : Launch) (G : va_G) (t : Nat → ClassId) (A : Nat → Prop) (a : Nat → Nat) (cs : Nat → ClassId) (K : XK) (many : (Nat → Int32)) (settings : (Nat → Int32)) (isVoted : Int32) (lotsNow : Int32) (seen : (Nat → Int32)) (keyOne : (Nat → Int32)) (keyTwo : (Nat → Int32)) (votes : (Nat → Int32)) (looked : Int32) (matched : Int32) (without : Int32) (trio : (Nat → Int32)) (takenStar : (Nat → Int32)) (takenAs : (Nat → Int32)) (takenSpot : (Nat → Int32)) (pairs : Int32) (starArms : (Nat → Int64)) (spotArms : (Nat → Int64)) (isTurn : Int32) (places : (Nat → Int32)) (byStar : (Nat → Int32)) (byFar : (Nat → Int32)) (one : (Nat → Int64)) (usedNow : (Nat → Int32)) (laidMany : (Nat → Int32)) (finding : Int32) (dir : (Nat → Int32)) (q : Nat) (k : Nat) (i : Nat) (r : Nat) (k2 : Nat) (i2 : Nat) (hk : k < 2) (mq : q ∈ K.L) (fq : K.f q = .inr (4 + k, [.int (dir (36 * k + 3 * i)), .int (dir (36 * k + 3 * i + 1)), .int (dir (36 * k + 3 * i + 2))])) (hk2 : k2 < 2) (mr : r ∈ K.L) (fr : K.f r = .inr (4 + k2, [.int (dir (36 * k2 + 3 * i2)), .int (dir (36 * k2 + 3 * i2 + 1)), .int (dir (36 * k2 + 3 * i2 + 2))])) : Met l yX0_arms (ws_ yX0_arms cX0_arms 4 (some .boolean)) (rm_ 0 3 0 0) (va_Pc [.ref (a 0), .ref q, .ref r, .ref (a 26)] (xPr G t A a cs K.L (Xx t a K many settings isVoted lotsNow seen keyOne keyTwo votes looked matched without trio takenStar takenAs takenSpot pairs starArms spotArms isTurn places byStar byFar one usedNow laidMany finding))) (va_Qi (fun rv (uv : ((Nat → Int64)) × (Nat → Int64)) => rv = b2i (anyX (armsX starArms dir (36 * k + 3 * i) (36 * k2 + 3 * i2))) ∧ uv.1 = armsX starArms dir (36 * k + 3 * i) (36 * k2 + 3 * i2)) (mB G (fun (uv : ((Nat → Int64)) × (Nat → Int64)) => Xx t a K many settings isVoted lotsNow seen keyOne keyTwo votes looked matched without trio takenStar takenAs takenSpot pairs uv.1 spotArms isTurn places byStar byFar uv.2 usedNow laidMany finding)) A) 0 0 A := by
  refine mkx_W (by decide) (Nat.le_of_ble_eq_true rfl) ?_
  intro p e s m below meth c ls hx hb hml hr hlk hts hown hnm hv hl
  obtain ⟨hP, hK, hD, hA, hE⟩ := hv
  have hS : va_S A s.heap s.heap [] := va_S.rf
  have hl : lv_has ls 4 [(0, .ref (a 0)), (1, .ref q), (2, .ref r), (3, .ref (a 26))] := hl
  refine lv_aload_n hx hb dX0_arms_0 rfl (lv_at hl 1 rfl) ?_
  refine lv_aload_n hx hb dX0_arms_1 rfl (lv_at hl 3 rfl) ?_
  refine lv_iconst (v := 0) hx hb dX0_arms_2 (by decide) ?_
  refine xq_aald (r := .ref (a (27 + 0))) hx hb hK hP 26 12 xk_starArms rfl rfl 0 (nI_q 0) (by decide) (by decide) rfl dX0_arms_3 ?_
  refine va_callv (va_runS (As := [.ref q, .ref (a (27 + 0))]) (rest := []) ⟨hx, hb, hml, hown, hts⟩ (mx_lays_starArms l G t A a cs K many settings isVoted lotsNow seen keyOne keyTwo votes looked matched without trio takenStar takenAs takenSpot pairs starArms spotArms isTurn places byStar byFar one usedNow laidMany finding dir q k i (by omega) mq fq) (va_cwS 2 hts (lw_S q329 q330 q80 q331) rfl rfl rfl cd_X0_lays.2 ⟨Nat.le_of_ble_eq_true rfl, Nat.le_of_ble_eq_true rfl⟩) ⟨xPr_fb, fun U hU hW => ⟨rfl, xPr_of hP hK hD hS hA hE hU hW⟩⟩ rfl rfl hl.1 rfl (lv_room (Nat.le_of_ble_eq_true rfl)) dX0_arms_4 ⟨Nat.le_of_ble_eq_true rfl, Nat.le_of_ble_eq_true rfl⟩) hS (fun _ _ h => h) (fun _ h => h) (fun u tt H locs ht _ hq hP _ hkp hS => ?_)
  obtain rfl := hq
  have hP : va_P G vwCl (Xx t a K many settings isVoted lotsNow seen keyOne keyTwo votes looked matched without trio takenStar takenAs takenSpot pairs (layL starArms dir (36 * k + 3 * i)) spotArms isTurn places byStar byFar one usedNow laidMany finding) H := by rw [← ht]; exact hP
  refine lv_aload_n hx hb dX0_arms_7 rfl (lv_at hl 2 rfl) ?_
  refine lv_aload_n hx hb dX0_arms_8 rfl (lv_at hl 0 rfl) ?_
  refine va_get (D := G) (ci := 0) (C := RX0) (T := TX0) (N := 32) hx hb hts in_X0 hown hK hP 0 xk_this rfl 26 (by decide) (hts _ q659) (fun _ h => h) rfl dX0_arms_9 ?_
  refine va_callv (va_runS (As := [.ref r, .ref (a 49)]) (rest := []) ⟨hx, hb, hml, hown, hts⟩ (mx_lays_one l G t A a cs K many settings isVoted lotsNow seen keyOne keyTwo votes looked matched without trio takenStar takenAs takenSpot pairs (layL starArms dir (36 * k + 3 * i)) spotArms isTurn places byStar byFar one usedNow laidMany finding dir r k2 i2 (by omega) mr fr) (va_cwS 2 hts (lw_S q329 q330 q80 q331) rfl rfl rfl cd_X0_lays.2 ⟨Nat.le_of_ble_eq_true rfl, Nat.le_of_ble_eq_true rfl⟩) ⟨xPr_fb, fun U hU hW => ⟨rfl, xPr_of hP hK hD hS hA hE hU hW⟩⟩ rfl rfl hl.1 rfl (lv_room (Nat.le_of_ble_eq_true rfl)) dX0_arms_12 ⟨Nat.le_of_ble_eq_true rfl, Nat.le_of_ble_eq_true rfl⟩) hS (fun _ _ h => h) (fun _ h => h) (fun u tt H locs ht _ hq hP _ hkp hS => ?_)
  obtain rfl := hq
  have hP : va_P G vwCl (Xx t a K many settings isVoted lotsNow seen keyOne keyTwo votes looked matched without trio takenStar takenAs takenSpot pairs (layL starArms dir (36 * k + 3 * i)) spotArms isTurn places byStar byFar (lay3 one dir (36 * k2 + 3 * i2)) usedNow laidMany finding) H := by rw [← ht]; exact hP
  refine lv_aload_n hx hb dX0_arms_15 rfl (lv_at hl 3 rfl) ?_
  refine lv_iconst (v := 0) hx hb dX0_arms_16 (by decide) ?_
  refine xq_aald (r := .ref (a (27 + 0))) hx hb hK hP 26 12 xk_starArms rfl rfl 0 (nI_q 0) (by decide) (by decide) rfl dX0_arms_17 ?_
  refine lv_aload_n hx hb dX0_arms_18 rfl (lv_at hl 0 rfl) ?_
  refine va_get (D := G) (ci := 0) (C := RX0) (T := TX0) (N := 32) hx hb hts in_X0 hown hK hP 0 xk_this rfl 26 (by decide) (hts _ q659) (fun _ h => h) rfl dX0_arms_19 ?_
  refine lv_aload_n hx hb dX0_arms_22 rfl (lv_at hl 3 rfl) ?_
  refine lv_iconst (v := 1) hx hb dX0_arms_23 (by decide) ?_
  refine xq_aald (r := .ref (a (27 + 1))) hx hb hK hP 26 12 xk_starArms rfl rfl 1 (nI_q 1) (by decide) (by decide) rfl dX0_arms_24 ?_
  refine va_callv (va_runS (As := [.ref (a (27 + 0)), .ref (a 49), .ref (a (27 + 1))]) (rest := []) ⟨hx, hb, hml, hown, hts⟩ (mx_crosses_starArms_crsA l G t A a cs K many settings isVoted lotsNow seen keyOne keyTwo votes looked matched without trio takenStar takenAs takenSpot pairs (layL starArms dir (36 * k + 3 * i)) spotArms isTurn places byStar byFar (lay3 one dir (36 * k2 + 3 * i2)) usedNow laidMany finding dir) (va_cwS 3 hts (lw_S q332 q333 q80 q334) rfl rfl rfl cd_X0_crosses.2 ⟨Nat.le_of_ble_eq_true rfl, Nat.le_of_ble_eq_true rfl⟩) ⟨xPr_fb, fun U hU hW => ⟨rfl, xPr_of hP hK hD hS hA hE hU hW⟩⟩ rfl rfl hl.1 rfl (lv_room (Nat.le_of_ble_eq_true rfl)) dX0_arms_25 ⟨Nat.le_of_ble_eq_true rfl, Nat.le_of_ble_eq_true rfl⟩) hS (fun _ _ h => h) (fun _ h => h) (fun u tt H locs ht _ hq hP _ hkp hS => ?_)
  obtain rfl := hq
  have hP : va_P G vwCl (Xx t a K many settings isVoted lotsNow seen keyOne keyTwo votes looked matched without trio takenStar takenAs takenSpot pairs (crsA (layL starArms dir (36 * k + 3 * i)) (lay3 one dir (36 * k2 + 3 * i2))) spotArms isTurn places byStar byFar (lay3 one dir (36 * k2 + 3 * i2)) usedNow laidMany finding) H := by rw [← ht]; exact hP
  rw [crsA_lay] at hP
  refine lv_aload_n hx hb dX0_arms_28 rfl (lv_at hl 3 rfl) ?_
  refine lv_iconst (v := 0) hx hb dX0_arms_29 (by decide) ?_
  refine xq_aald (r := .ref (a (27 + 0))) hx hb hK hP 26 12 xk_starArms rfl rfl 0 (nI_q 0) (by decide) (by decide) rfl dX0_arms_30 ?_
  refine lv_aload_n hx hb dX0_arms_31 rfl (lv_at hl 3 rfl) ?_
  refine lv_iconst (v := 1) hx hb dX0_arms_32 (by decide) ?_
  refine xq_aald (r := .ref (a (27 + 1))) hx hb hK hP 26 12 xk_starArms rfl rfl 1 (nI_q 1) (by decide) (by decide) rfl dX0_arms_33 ?_
  refine lv_aload_n hx hb dX0_arms_34 rfl (lv_at hl 3 rfl) ?_
  refine lv_iconst (v := 2) hx hb dX0_arms_35 (by decide) ?_
  refine xq_aald (r := .ref (a (27 + 2))) hx hb hK hP 26 12 xk_starArms rfl rfl 2 (nI_q 2) (by decide) (by decide) rfl dX0_arms_36 ?_
  refine va_callv (va_runS (As := [.ref (a (27 + 0)), .ref (a (27 + 1)), .ref (a (27 + 2))]) (rest := []) ⟨hx, hb, hml, hown, hts⟩ (mx_crosses_starArms_crsB l G t A a cs K many settings isVoted lotsNow seen keyOne keyTwo votes looked matched without trio takenStar takenAs takenSpot pairs (crsL (layL starArms dir (36 * k + 3 * i)) dir (36 * k2 + 3 * i2)) spotArms isTurn places byStar byFar (lay3 one dir (36 * k2 + 3 * i2)) usedNow laidMany finding dir) (va_cwS 3 hts (lw_S q332 q333 q80 q334) rfl rfl rfl cd_X0_crosses.2 ⟨Nat.le_of_ble_eq_true rfl, Nat.le_of_ble_eq_true rfl⟩) ⟨xPr_fb, fun U hU hW => ⟨rfl, xPr_of hP hK hD hS hA hE hU hW⟩⟩ rfl rfl hl.1 rfl (lv_room (Nat.le_of_ble_eq_true rfl)) dX0_arms_37 ⟨Nat.le_of_ble_eq_true rfl, Nat.le_of_ble_eq_true rfl⟩) hS (fun _ _ h => h) (fun _ h => h) (fun u tt H locs ht _ hq hP _ hkp hS => ?_)
  obtain rfl := hq
  have hP : va_P G vwCl (Xx t a K many settings isVoted lotsNow seen keyOne keyTwo votes looked matched without trio takenStar takenAs takenSpot pairs (crsB (crsL (layL starArms dir (36 * k + 3 * i)) dir (36 * k2 + 3 * i2))) spotArms isTurn places byStar byFar (lay3 one dir (36 * k2 + 3 * i2)) usedNow laidMany finding) H := by rw [← ht]; exact hP
  have hP : va_P G vwCl (Xx t a K many settings isVoted lotsNow seen keyOne keyTwo votes looked matched without trio takenStar takenAs takenSpot pairs (armsX starArms dir (36 * k + 3 * i) (36 * k2 + 3 * i2)) spotArms isTurn places byStar byFar (lay3 one dir (36 * k2 + 3 * i2)) usedNow laidMany finding) H := hP
  refine lv_aload_n hx hb dX0_arms_40 rfl (lv_at hl 0 rfl) ?_
  refine va_get (D := G) (ci := 0) (C := RX0) (T := TX0) (N := 32) hx hb hts in_X0 hown hK hP 0 xk_this rfl 2 (by decide) (hts _ q635) (fun _ h => h) rfl dX0_arms_41 ?_
  refine lv_aload_n hx hb dX0_arms_44 rfl (lv_at hl 3 rfl) ?_
  refine lv_iconst (v := 1) hx hb dX0_arms_45 (by decide) ?_
  refine xq_aald (r := .ref (a (27 + 1))) hx hb hK hP 26 12 xk_starArms rfl rfl 1 (nI_q 1) (by decide) (by decide) rfl dX0_arms_46 ?_
  refine lv_aload_n hx hb dX0_arms_47 rfl (lv_at hl 3 rfl) ?_
  refine lv_iconst (v := 1) hx hb dX0_arms_48 (by decide) ?_
  refine xq_aald (r := .ref (a (27 + 1))) hx hb hK hP 26 12 xk_starArms rfl rfl 1 (nI_q 1) (by decide) (by decide) rfl dX0_arms_49 ?_
  refine xl_dot hx hb hml hown hts hK (f := (rowF (armsX starArms dir (36 * k + 3 * i) (36 * k2 + 3 * i2)) 1)) (g := (rowF (armsX starArms dir (36 * k + 3 * i) (36 * k2 + 3 * i2)) 1)) (x_two hP (i := (27 + 1)) (j := (27 + 1)) (xr_starArms (by decide)) (xr_starArms (by decide))) (xE_dot hE) (hE.dot.kept hS) hl.1 dX0_arms_50 (Nat.le_of_ble_eq_true rfl) (Nat.le_of_ble_eq_true rfl) (Nat.le_of_ble_eq_true rfl) ?_
  refine lv_lconst (v := 0) hx hb dX0_arms_55 (by decide) ?_
  refine W.lcmp hx hb dX0_arms_56 ?_
  refine lv_if_eq (tgt := 64) hx hb dX0_arms_57 (by decide) (fun c_1 => ?_) (fun c_1 => ?_)
  · refine lv_iconst (v := 0) hx hb dX0_arms_64 (by decide) ?_
    exact W.zret (v := 0) hx hb hr rfl (fun tt ht _ => ⟨⟨_, ((armsX starArms dir (36 * k + 3 * i) (36 * k2 + 3 * i2)), (lay3 one dir (36 * k2 + 3 * i2))), rfl, ⟨(by rw [lg_cmp_eq] at c_1; exact (b2i_f (fun q => q c_1)).symm), rfl⟩, (show va_P G vwCl ((fun (uv : ((Nat → Int64)) × (Nat → Int64)) => Xx t a K many settings isVoted lotsNow seen keyOne keyTwo votes looked matched without trio takenStar takenAs takenSpot pairs uv.1 spotArms isTurn places byStar byFar uv.2 usedNow laidMany finding) ((armsX starArms dir (36 * k + 3 * i) (36 * k2 + 3 * i2)), (lay3 one dir (36 * k2 + 3 * i2)))) tt.heap from by rw [ht]; exact hP)⟩, hS.F ht⟩) hS.2.2 dX0_arms_65 hlk
  · refine lv_iconst (v := 1) hx hb dX0_arms_60 (by decide) ?_
    refine lv_goto (tgt := 65) hx hb dX0_arms_61 (by decide) ?_
    exact W.zret (v := 1) hx hb hr rfl (fun tt ht _ => ⟨⟨_, ((armsX starArms dir (36 * k + 3 * i) (36 * k2 + 3 * i2)), (lay3 one dir (36 * k2 + 3 * i2))), rfl, ⟨(by rw [lg_cmp_eq] at c_1; exact (b2i_t c_1).symm), rfl⟩, (show va_P G vwCl ((fun (uv : ((Nat → Int64)) × (Nat → Int64)) => Xx t a K many settings isVoted lotsNow seen keyOne keyTwo votes looked matched without trio takenStar takenAs takenSpot pairs uv.1 spotArms isTurn places byStar byFar uv.2 usedNow laidMany finding) ((armsX starArms dir (36 * k + 3 * i) (36 * k2 + 3 * i2)), (lay3 one dir (36 * k2 + 3 * i2)))) tt.heap from by rw [ht]; exact hP)⟩, hS.F ht⟩) hS.2.2 dX0_arms_65 hlk

set_option maxHeartbeats 4000000 in
theorem mx_arms_spotArms (l : Launch) (G : va_G) (t : Nat → ClassId) (A : Nat → Prop) (a : Nat → Nat) (cs : Nat → ClassId) (K : XK) (many : (Nat → Int32)) (settings : (Nat → Int32)) (isVoted : Int32) (lotsNow : Int32) (seen : (Nat → Int32)) (keyOne : (Nat → Int32)) (keyTwo : (Nat → Int32)) (votes : (Nat → Int32)) (looked : Int32) (matched : Int32) (without : Int32) (trio : (Nat → Int32)) (takenStar : (Nat → Int32)) (takenAs : (Nat → Int32)) (takenSpot : (Nat → Int32)) (pairs : Int32) (starArms : (Nat → Int64)) (spotArms : (Nat → Int64)) (isTurn : Int32) (places : (Nat → Int32)) (byStar : (Nat → Int32)) (byFar : (Nat → Int32)) (one : (Nat → Int64)) (usedNow : (Nat → Int32)) (laidMany : (Nat → Int32)) (finding : Int32) (dir : (Nat → Int32)) (q : Nat) (k : Nat) (i : Nat) (r : Nat) (k2 : Nat) (i2 : Nat) (hk : k < 2) (mq : q ∈ K.L) (fq : K.f q = .inr (4 + k, [.int (dir (36 * k + 3 * i)), .int (dir (36 * k + 3 * i + 1)), .int (dir (36 * k + 3 * i + 2))])) (hk2 : k2 < 2) (mr : r ∈ K.L) (fr : K.f r = .inr (4 + k2, [.int (dir (36 * k2 + 3 * i2)), .int (dir (36 * k2 + 3 * i2 + 1)), .int (dir (36 * k2 + 3 * i2 + 2))])) : Met l yX0_arms (ws_ yX0_arms cX0_arms 4 (some .boolean)) (rm_ 0 3 0 0) (va_Pc [.ref (a 0), .ref q, .ref r, .ref (a 30)] (xPr G t A a cs K.L (Xx t a K many settings isVoted lotsNow seen keyOne keyTwo votes looked matched without trio takenStar takenAs takenSpot pairs starArms spotArms isTurn places byStar byFar one usedNow laidMany finding))) (va_Qi (fun rv (uv : ((Nat → Int64)) × (Nat → Int64)) => rv = b2i (anyX (armsX spotArms dir (36 * k + 3 * i) (36 * k2 + 3 * i2))) ∧ uv.1 = armsX spotArms dir (36 * k + 3 * i) (36 * k2 + 3 * i2)) (mB G (fun (uv : ((Nat → Int64)) × (Nat → Int64)) => Xx t a K many settings isVoted lotsNow seen keyOne keyTwo votes looked matched without trio takenStar takenAs takenSpot pairs starArms uv.1 isTurn places byStar byFar uv.2 usedNow laidMany finding)) A) 0 0 A := by
  refine mkx_W (by decide) (Nat.le_of_ble_eq_true rfl) ?_
  intro p e s m below meth c ls hx hb hml hr hlk hts hown hnm hv hl
  obtain ⟨hP, hK, hD, hA, hE⟩ := hv
  have hS : va_S A s.heap s.heap [] := va_S.rf
  have hl : lv_has ls 4 [(0, .ref (a 0)), (1, .ref q), (2, .ref r), (3, .ref (a 30))] := hl
  refine lv_aload_n hx hb dX0_arms_0 rfl (lv_at hl 1 rfl) ?_
  refine lv_aload_n hx hb dX0_arms_1 rfl (lv_at hl 3 rfl) ?_
  refine lv_iconst (v := 0) hx hb dX0_arms_2 (by decide) ?_
  refine xq_aald (r := .ref (a (31 + 0))) hx hb hK hP 30 12 xk_spotArms rfl rfl 0 (nI_q 0) (by decide) (by decide) rfl dX0_arms_3 ?_
  refine va_callv (va_runS (As := [.ref q, .ref (a (31 + 0))]) (rest := []) ⟨hx, hb, hml, hown, hts⟩ (mx_lays_spotArms l G t A a cs K many settings isVoted lotsNow seen keyOne keyTwo votes looked matched without trio takenStar takenAs takenSpot pairs starArms spotArms isTurn places byStar byFar one usedNow laidMany finding dir q k i (by omega) mq fq) (va_cwS 2 hts (lw_S q329 q330 q80 q331) rfl rfl rfl cd_X0_lays.2 ⟨Nat.le_of_ble_eq_true rfl, Nat.le_of_ble_eq_true rfl⟩) ⟨xPr_fb, fun U hU hW => ⟨rfl, xPr_of hP hK hD hS hA hE hU hW⟩⟩ rfl rfl hl.1 rfl (lv_room (Nat.le_of_ble_eq_true rfl)) dX0_arms_4 ⟨Nat.le_of_ble_eq_true rfl, Nat.le_of_ble_eq_true rfl⟩) hS (fun _ _ h => h) (fun _ h => h) (fun u tt H locs ht _ hq hP _ hkp hS => ?_)
  obtain rfl := hq
  have hP : va_P G vwCl (Xx t a K many settings isVoted lotsNow seen keyOne keyTwo votes looked matched without trio takenStar takenAs takenSpot pairs starArms (layL spotArms dir (36 * k + 3 * i)) isTurn places byStar byFar one usedNow laidMany finding) H := by rw [← ht]; exact hP
  refine lv_aload_n hx hb dX0_arms_7 rfl (lv_at hl 2 rfl) ?_
  refine lv_aload_n hx hb dX0_arms_8 rfl (lv_at hl 0 rfl) ?_
  refine va_get (D := G) (ci := 0) (C := RX0) (T := TX0) (N := 32) hx hb hts in_X0 hown hK hP 0 xk_this rfl 26 (by decide) (hts _ q659) (fun _ h => h) rfl dX0_arms_9 ?_
  refine va_callv (va_runS (As := [.ref r, .ref (a 49)]) (rest := []) ⟨hx, hb, hml, hown, hts⟩ (mx_lays_one l G t A a cs K many settings isVoted lotsNow seen keyOne keyTwo votes looked matched without trio takenStar takenAs takenSpot pairs starArms (layL spotArms dir (36 * k + 3 * i)) isTurn places byStar byFar one usedNow laidMany finding dir r k2 i2 (by omega) mr fr) (va_cwS 2 hts (lw_S q329 q330 q80 q331) rfl rfl rfl cd_X0_lays.2 ⟨Nat.le_of_ble_eq_true rfl, Nat.le_of_ble_eq_true rfl⟩) ⟨xPr_fb, fun U hU hW => ⟨rfl, xPr_of hP hK hD hS hA hE hU hW⟩⟩ rfl rfl hl.1 rfl (lv_room (Nat.le_of_ble_eq_true rfl)) dX0_arms_12 ⟨Nat.le_of_ble_eq_true rfl, Nat.le_of_ble_eq_true rfl⟩) hS (fun _ _ h => h) (fun _ h => h) (fun u tt H locs ht _ hq hP _ hkp hS => ?_)
  obtain rfl := hq
  have hP : va_P G vwCl (Xx t a K many settings isVoted lotsNow seen keyOne keyTwo votes looked matched without trio takenStar takenAs takenSpot pairs starArms (layL spotArms dir (36 * k + 3 * i)) isTurn places byStar byFar (lay3 one dir (36 * k2 + 3 * i2)) usedNow laidMany finding) H := by rw [← ht]; exact hP
  refine lv_aload_n hx hb dX0_arms_15 rfl (lv_at hl 3 rfl) ?_
  refine lv_iconst (v := 0) hx hb dX0_arms_16 (by decide) ?_
  refine xq_aald (r := .ref (a (31 + 0))) hx hb hK hP 30 12 xk_spotArms rfl rfl 0 (nI_q 0) (by decide) (by decide) rfl dX0_arms_17 ?_
  refine lv_aload_n hx hb dX0_arms_18 rfl (lv_at hl 0 rfl) ?_
  refine va_get (D := G) (ci := 0) (C := RX0) (T := TX0) (N := 32) hx hb hts in_X0 hown hK hP 0 xk_this rfl 26 (by decide) (hts _ q659) (fun _ h => h) rfl dX0_arms_19 ?_
  refine lv_aload_n hx hb dX0_arms_22 rfl (lv_at hl 3 rfl) ?_
  refine lv_iconst (v := 1) hx hb dX0_arms_23 (by decide) ?_
  refine xq_aald (r := .ref (a (31 + 1))) hx hb hK hP 30 12 xk_spotArms rfl rfl 1 (nI_q 1) (by decide) (by decide) rfl dX0_arms_24 ?_
  refine va_callv (va_runS (As := [.ref (a (31 + 0)), .ref (a 49), .ref (a (31 + 1))]) (rest := []) ⟨hx, hb, hml, hown, hts⟩ (mx_crosses_spotArms_crsA l G t A a cs K many settings isVoted lotsNow seen keyOne keyTwo votes looked matched without trio takenStar takenAs takenSpot pairs starArms (layL spotArms dir (36 * k + 3 * i)) isTurn places byStar byFar (lay3 one dir (36 * k2 + 3 * i2)) usedNow laidMany finding dir) (va_cwS 3 hts (lw_S q332 q333 q80 q334) rfl rfl rfl cd_X0_crosses.2 ⟨Nat.le_of_ble_eq_true rfl, Nat.le_of_ble_eq_true rfl⟩) ⟨xPr_fb, fun U hU hW => ⟨rfl, xPr_of hP hK hD hS hA hE hU hW⟩⟩ rfl rfl hl.1 rfl (lv_room (Nat.le_of_ble_eq_true rfl)) dX0_arms_25 ⟨Nat.le_of_ble_eq_true rfl, Nat.le_of_ble_eq_true rfl⟩) hS (fun _ _ h => h) (fun _ h => h) (fun u tt H locs ht _ hq hP _ hkp hS => ?_)
  obtain rfl := hq
  have hP : va_P G vwCl (Xx t a K many settings isVoted lotsNow seen keyOne keyTwo votes looked matched without trio takenStar takenAs takenSpot pairs starArms (crsA (layL spotArms dir (36 * k + 3 * i)) (lay3 one dir (36 * k2 + 3 * i2))) isTurn places byStar byFar (lay3 one dir (36 * k2 + 3 * i2)) usedNow laidMany finding) H := by rw [← ht]; exact hP
  rw [crsA_lay] at hP
  refine lv_aload_n hx hb dX0_arms_28 rfl (lv_at hl 3 rfl) ?_
  refine lv_iconst (v := 0) hx hb dX0_arms_29 (by decide) ?_
  refine xq_aald (r := .ref (a (31 + 0))) hx hb hK hP 30 12 xk_spotArms rfl rfl 0 (nI_q 0) (by decide) (by decide) rfl dX0_arms_30 ?_
  refine lv_aload_n hx hb dX0_arms_31 rfl (lv_at hl 3 rfl) ?_
  refine lv_iconst (v := 1) hx hb dX0_arms_32 (by decide) ?_
  refine xq_aald (r := .ref (a (31 + 1))) hx hb hK hP 30 12 xk_spotArms rfl rfl 1 (nI_q 1) (by decide) (by decide) rfl dX0_arms_33 ?_
  refine lv_aload_n hx hb dX0_arms_34 rfl (lv_at hl 3 rfl) ?_
  refine lv_iconst (v := 2) hx hb dX0_arms_35 (by decide) ?_
  refine xq_aald (r := .ref (a (31 + 2))) hx hb hK hP 30 12 xk_spotArms rfl rfl 2 (nI_q 2) (by decide) (by decide) rfl dX0_arms_36 ?_
  refine va_callv (va_runS (As := [.ref (a (31 + 0)), .ref (a (31 + 1)), .ref (a (31 + 2))]) (rest := []) ⟨hx, hb, hml, hown, hts⟩ (mx_crosses_spotArms_crsB l G t A a cs K many settings isVoted lotsNow seen keyOne keyTwo votes looked matched without trio takenStar takenAs takenSpot pairs starArms (crsL (layL spotArms dir (36 * k + 3 * i)) dir (36 * k2 + 3 * i2)) isTurn places byStar byFar (lay3 one dir (36 * k2 + 3 * i2)) usedNow laidMany finding dir) (va_cwS 3 hts (lw_S q332 q333 q80 q334) rfl rfl rfl cd_X0_crosses.2 ⟨Nat.le_of_ble_eq_true rfl, Nat.le_of_ble_eq_true rfl⟩) ⟨xPr_fb, fun U hU hW => ⟨rfl, xPr_of hP hK hD hS hA hE hU hW⟩⟩ rfl rfl hl.1 rfl (lv_room (Nat.le_of_ble_eq_true rfl)) dX0_arms_37 ⟨Nat.le_of_ble_eq_true rfl, Nat.le_of_ble_eq_true rfl⟩) hS (fun _ _ h => h) (fun _ h => h) (fun u tt H locs ht _ hq hP _ hkp hS => ?_)
  obtain rfl := hq
  have hP : va_P G vwCl (Xx t a K many settings isVoted lotsNow seen keyOne keyTwo votes looked matched without trio takenStar takenAs takenSpot pairs starArms (crsB (crsL (layL spotArms dir (36 * k + 3 * i)) dir (36 * k2 + 3 * i2))) isTurn places byStar byFar (lay3 one dir (36 * k2 + 3 * i2)) usedNow laidMany finding) H := by rw [← ht]; exact hP
  have hP : va_P G vwCl (Xx t a K many settings isVoted lotsNow seen keyOne keyTwo votes looked matched without trio takenStar takenAs takenSpot pairs starArms (armsX spotArms dir (36 * k + 3 * i) (36 * k2 + 3 * i2)) isTurn places byStar byFar (lay3 one dir (36 * k2 + 3 * i2)) usedNow laidMany finding) H := hP
  refine lv_aload_n hx hb dX0_arms_40 rfl (lv_at hl 0 rfl) ?_
  refine va_get (D := G) (ci := 0) (C := RX0) (T := TX0) (N := 32) hx hb hts in_X0 hown hK hP 0 xk_this rfl 2 (by decide) (hts _ q635) (fun _ h => h) rfl dX0_arms_41 ?_
  refine lv_aload_n hx hb dX0_arms_44 rfl (lv_at hl 3 rfl) ?_
  refine lv_iconst (v := 1) hx hb dX0_arms_45 (by decide) ?_
  refine xq_aald (r := .ref (a (31 + 1))) hx hb hK hP 30 12 xk_spotArms rfl rfl 1 (nI_q 1) (by decide) (by decide) rfl dX0_arms_46 ?_
  refine lv_aload_n hx hb dX0_arms_47 rfl (lv_at hl 3 rfl) ?_
  refine lv_iconst (v := 1) hx hb dX0_arms_48 (by decide) ?_
  refine xq_aald (r := .ref (a (31 + 1))) hx hb hK hP 30 12 xk_spotArms rfl rfl 1 (nI_q 1) (by decide) (by decide) rfl dX0_arms_49 ?_
  refine xl_dot hx hb hml hown hts hK (f := (rowF (armsX spotArms dir (36 * k + 3 * i) (36 * k2 + 3 * i2)) 1)) (g := (rowF (armsX spotArms dir (36 * k + 3 * i) (36 * k2 + 3 * i2)) 1)) (x_two hP (i := (31 + 1)) (j := (31 + 1)) (xr_spotArms (by decide)) (xr_spotArms (by decide))) (xE_dot hE) (hE.dot.kept hS) hl.1 dX0_arms_50 (Nat.le_of_ble_eq_true rfl) (Nat.le_of_ble_eq_true rfl) (Nat.le_of_ble_eq_true rfl) ?_
  refine lv_lconst (v := 0) hx hb dX0_arms_55 (by decide) ?_
  refine W.lcmp hx hb dX0_arms_56 ?_
  refine lv_if_eq (tgt := 64) hx hb dX0_arms_57 (by decide) (fun c_1 => ?_) (fun c_1 => ?_)
  · refine lv_iconst (v := 0) hx hb dX0_arms_64 (by decide) ?_
    exact W.zret (v := 0) hx hb hr rfl (fun tt ht _ => ⟨⟨_, ((armsX spotArms dir (36 * k + 3 * i) (36 * k2 + 3 * i2)), (lay3 one dir (36 * k2 + 3 * i2))), rfl, ⟨(by rw [lg_cmp_eq] at c_1; exact (b2i_f (fun q => q c_1)).symm), rfl⟩, (show va_P G vwCl ((fun (uv : ((Nat → Int64)) × (Nat → Int64)) => Xx t a K many settings isVoted lotsNow seen keyOne keyTwo votes looked matched without trio takenStar takenAs takenSpot pairs starArms uv.1 isTurn places byStar byFar uv.2 usedNow laidMany finding) ((armsX spotArms dir (36 * k + 3 * i) (36 * k2 + 3 * i2)), (lay3 one dir (36 * k2 + 3 * i2)))) tt.heap from by rw [ht]; exact hP)⟩, hS.F ht⟩) hS.2.2 dX0_arms_65 hlk
  · refine lv_iconst (v := 1) hx hb dX0_arms_60 (by decide) ?_
    refine lv_goto (tgt := 65) hx hb dX0_arms_61 (by decide) ?_
    exact W.zret (v := 1) hx hb hr rfl (fun tt ht _ => ⟨⟨_, ((armsX spotArms dir (36 * k + 3 * i) (36 * k2 + 3 * i2)), (lay3 one dir (36 * k2 + 3 * i2))), rfl, ⟨(by rw [lg_cmp_eq] at c_1; exact (b2i_t c_1).symm), rfl⟩, (show va_P G vwCl ((fun (uv : ((Nat → Int64)) × (Nat → Int64)) => Xx t a K many settings isVoted lotsNow seen keyOne keyTwo votes looked matched without trio takenStar takenAs takenSpot pairs starArms uv.1 isTurn places byStar byFar uv.2 usedNow laidMany finding) ((armsX spotArms dir (36 * k + 3 * i) (36 * k2 + 3 * i2)), (lay3 one dir (36 * k2 + 3 * i2)))) tt.heap from by rw [ht]; exact hP)⟩, hS.F ht⟩) hS.2.2 dX0_arms_65 hlk

set_option maxHeartbeats 4000000 in
theorem mx_findsPlace (l : Launch) (G : va_G) (t : Nat → ClassId) (A : Nat → Prop) (a : Nat → Nat) (cs : Nat → ClassId) (K : XK) (many : (Nat → Int32)) (settings : (Nat → Int32)) (isVoted : Int32) (lotsNow : Int32) (seen : (Nat → Int32)) (keyOne : (Nat → Int32)) (keyTwo : (Nat → Int32)) (votes : (Nat → Int32)) (looked : Int32) (matched : Int32) (without : Int32) (trio : (Nat → Int32)) (takenStar : (Nat → Int32)) (takenAs : (Nat → Int32)) (takenSpot : (Nat → Int32)) (pairs : Int32) (starArms : (Nat → Int64)) (spotArms : (Nat → Int64)) (isTurn : Int32) (places : (Nat → Int32)) (byStar : (Nat → Int32)) (byFar : (Nat → Int32)) (one : (Nat → Int64)) (usedNow : (Nat → Int32)) (laidMany : (Nat → Int32)) (finding : Int32) (dir : (Nat → Int32)) (ii : Nat) (hM : Mok many) (hB : BodOk K dir many) (h1 : ii < nK many 0) (hnz : ¬ (2 : Int64) * (sq starArms 0 * sq starArms 1) = 0) : Met l yX0_findsPlace (ws_ yX0_findsPlace cX0_findsPlace 9 (none)) (rm_ 0 3 0 0) (va_Pc [.ref (a 0), .int (nI ii)] (xPr G t A a cs K.L (Xx t a K many settings isVoted lotsNow seen keyOne keyTwo votes looked matched without trio takenStar takenAs takenSpot pairs starArms spotArms isTurn places byStar byFar one usedNow laidMany finding))) (va_Qv (fun (uv : ((Nat → Int32)) × (Nat → Int64)) => uv.1 = plcX dir starArms spotArms ii places) (mB G (fun (uv : ((Nat → Int32)) × (Nat → Int64)) => Xx t a K many settings isVoted lotsNow seen keyOne keyTwo votes looked matched without trio takenStar takenAs takenSpot pairs starArms spotArms isTurn uv.1 byStar byFar uv.2 usedNow laidMany finding)) A) 0 0 A := by
  refine mkx_W (by decide) (Nat.le_of_ble_eq_true rfl) ?_
  intro p e s m below meth c ls hx hb hml hr hlk hts hown hnm hv hl
  obtain ⟨hP, hK, hD, hA, hE⟩ := hv
  have hS : va_S A s.heap s.heap [] := va_S.rf
  have hl : lv_has ls 9 [(0, .ref (a 0)), (1, .int (nI ii))] := hl
  have h0 : nK many 0 ≤ 12 := (hM 0 (by omega)).2
  refine lv_aload_n hx hb dX0_findsPlace_0 rfl (lv_at hl 0 rfl) ?_
  refine va_get (D := G) (ci := 0) (C := RX0) (T := TX0) (N := 32) hx hb hts in_X0 hown hK hP 0 xk_this rfl 3 (by decide) (hts _ q636) (fun _ h => h) rfl dX0_findsPlace_1 ?_
  refine lv_iconst (v := 0) hx hb dX0_findsPlace_4 (by decide) ?_
  refine xq_aald (r := .ref (a (6 + 0))) hx hb hK hP 5 10 xk_bodies rfl rfl 0 (nI_q 0) (by decide) (by decide) rfl dX0_findsPlace_5 ?_
  refine lv_iload_n hx hb dX0_findsPlace_6 rfl (lv_at hl 1 rfl) ?_
  obtain ⟨b_1, eb_1, mb_1, fb_1⟩ := hB 0 ii (by decide) (by omega)
  refine xq_aald (r := .ref b_1) hx hb hK hP (6 + 0) 5 (xr_bodies (by decide)) rfl rfl ii rfl (lt_mx hM (by decide) (by omega)) (mx_1000 _) (by rw [eb_1]; rfl) dX0_findsPlace_7 ?_
  refine lv_aload_n hx hb dX0_findsPlace_8 rfl (lv_at hl 0 rfl) ?_
  refine va_get (D := G) (ci := 0) (C := RX0) (T := TX0) (N := 32) hx hb hts in_X0 hown hK hP 0 xk_this rfl 26 (by decide) (hts _ q659) (fun _ h => h) rfl dX0_findsPlace_9 ?_
  refine va_callv (va_runS (As := [.ref b_1, .ref (a 49)]) (rest := []) ⟨hx, hb, hml, hown, hts⟩ (mx_lays_one l G t A a cs K many settings isVoted lotsNow seen keyOne keyTwo votes looked matched without trio takenStar takenAs takenSpot pairs starArms spotArms isTurn places byStar byFar one usedNow laidMany finding dir b_1 0 ii (by decide) mb_1 fb_1) (va_cwS 2 hts (lw_S q329 q330 q80 q331) rfl rfl rfl cd_X0_lays.2 ⟨Nat.le_of_ble_eq_true rfl, Nat.le_of_ble_eq_true rfl⟩) ⟨xPr_fb, fun U hU hW => ⟨rfl, xPr_of hP hK hD hS hA hE hU hW⟩⟩ rfl rfl hl.1 rfl (lv_room (Nat.le_of_ble_eq_true rfl)) dX0_findsPlace_12 ⟨Nat.le_of_ble_eq_true rfl, Nat.le_of_ble_eq_true rfl⟩) hS (fun _ _ h => h) (fun _ h => h) (fun u tt H locs ht _ hq hP _ hkp hS => ?_)
  obtain rfl := hq
  have hP : va_P G vwCl (Xx t a K many settings isVoted lotsNow seen keyOne keyTwo votes looked matched without trio takenStar takenAs takenSpot pairs starArms spotArms isTurn places byStar byFar (lay3 one dir (36 * 0 + 3 * ii)) usedNow laidMany finding) H := by rw [← ht]; exact hP
  refine lv_aload_n hx hb dX0_findsPlace_15 rfl (lv_at hl 0 rfl) ?_
  refine va_get (D := G) (ci := 0) (C := RX0) (T := TX0) (N := 32) hx hb hts in_X0 hown hK hP 0 xk_this rfl 2 (by decide) (hts _ q635) (fun _ h => h) rfl dX0_findsPlace_16 ?_
  refine lv_aload_n hx hb dX0_findsPlace_19 rfl (lv_at hl 0 rfl) ?_
  refine va_get (D := G) (ci := 0) (C := RX0) (T := TX0) (N := 32) hx hb hts in_X0 hown hK hP 0 xk_this rfl 20 (by decide) (hts _ q653) (fun _ h => h) rfl dX0_findsPlace_20 ?_
  refine lv_iconst (v := 0) hx hb dX0_findsPlace_23 (by decide) ?_
  refine xq_aald (r := .ref (a (27 + 0))) hx hb hK hP 26 12 xk_starArms rfl rfl 0 (nI_q 0) (by decide) (by decide) rfl dX0_findsPlace_24 ?_
  refine lv_aload_n hx hb dX0_findsPlace_25 rfl (lv_at hl 0 rfl) ?_
  refine va_get (D := G) (ci := 0) (C := RX0) (T := TX0) (N := 32) hx hb hts in_X0 hown hK hP 0 xk_this rfl 20 (by decide) (hts _ q653) (fun _ h => h) rfl dX0_findsPlace_26 ?_
  refine lv_iconst (v := 0) hx hb dX0_findsPlace_29 (by decide) ?_
  refine xq_aald (r := .ref (a (27 + 0))) hx hb hK hP 26 12 xk_starArms rfl rfl 0 (nI_q 0) (by decide) (by decide) rfl dX0_findsPlace_30 ?_
  refine xl_dot hx hb hml hown hts hK (f := (rowF starArms 0)) (g := (rowF starArms 0)) (x_two hP (i := (27 + 0)) (j := (27 + 0)) (xr_starArms (by decide)) (xr_starArms (by decide))) (xE_dot hE) (hE.dot.kept hS) hl.1 dX0_findsPlace_31 (Nat.le_of_ble_eq_true rfl) (Nat.le_of_ble_eq_true rfl) (Nat.le_of_ble_eq_true rfl) ?_
  refine r_topl (y := (sq starArms 0)) rfl ?_
  refine lv_lstore_n (lv' := [(2, .long (sq starArms 0)), (0, .ref (a 0)), (1, .int (nI ii))]) hx hb dX0_findsPlace_36 rfl hl (by decide) rfl (fun ls hl => ?_)
  refine lv_aload_n hx hb dX0_findsPlace_37 rfl (lv_at hl 1 rfl) ?_
  refine va_get (D := G) (ci := 0) (C := RX0) (T := TX0) (N := 32) hx hb hts in_X0 hown hK hP 0 xk_this rfl 2 (by decide) (hts _ q635) (fun _ h => h) rfl dX0_findsPlace_38 ?_
  refine lv_aload_n hx hb dX0_findsPlace_41 rfl (lv_at hl 1 rfl) ?_
  refine va_get (D := G) (ci := 0) (C := RX0) (T := TX0) (N := 32) hx hb hts in_X0 hown hK hP 0 xk_this rfl 20 (by decide) (hts _ q653) (fun _ h => h) rfl dX0_findsPlace_42 ?_
  refine lv_iconst (v := 1) hx hb dX0_findsPlace_45 (by decide) ?_
  refine xq_aald (r := .ref (a (27 + 1))) hx hb hK hP 26 12 xk_starArms rfl rfl 1 (nI_q 1) (by decide) (by decide) rfl dX0_findsPlace_46 ?_
  refine lv_aload_n hx hb dX0_findsPlace_47 rfl (lv_at hl 1 rfl) ?_
  refine va_get (D := G) (ci := 0) (C := RX0) (T := TX0) (N := 32) hx hb hts in_X0 hown hK hP 0 xk_this rfl 20 (by decide) (hts _ q653) (fun _ h => h) rfl dX0_findsPlace_48 ?_
  refine lv_iconst (v := 1) hx hb dX0_findsPlace_51 (by decide) ?_
  refine xq_aald (r := .ref (a (27 + 1))) hx hb hK hP 26 12 xk_starArms rfl rfl 1 (nI_q 1) (by decide) (by decide) rfl dX0_findsPlace_52 ?_
  refine xl_dot hx hb hml hown hts hK (f := (rowF starArms 1)) (g := (rowF starArms 1)) (x_two hP (i := (27 + 1)) (j := (27 + 1)) (xr_starArms (by decide)) (xr_starArms (by decide))) (xE_dot hE) (hE.dot.kept hS) hl.1 dX0_findsPlace_53 (Nat.le_of_ble_eq_true rfl) (Nat.le_of_ble_eq_true rfl) (Nat.le_of_ble_eq_true rfl) ?_
  refine r_topl (y := (sq starArms 1)) rfl ?_
  refine lv_lstore (lv' := [(4, .long (sq starArms 1)), (2, .long (sq starArms 0)), (0, .ref (a 0)), (1, .int (nI ii))]) hx hb dX0_findsPlace_58 hl (by decide) rfl (fun ls hl => ?_)
  refine lv_iconst (v := 0) hx hb dX0_findsPlace_60 (by decide) ?_
  refine lv_istore (lv' := [(6, .int 0), (4, .long (sq starArms 1)), (2, .long (sq starArms 0)), (0, .ref (a 0)), (1, .int (nI ii))]) hx hb dX0_findsPlace_61 hl (by decide) rfl (fun ls hl => ?_)
  refine lv_iload hx hb dX0_findsPlace_63 (lv_at hl 0 rfl) ?_
  refine lv_iconst (v := 3) hx hb dX0_findsPlace_65 (by decide) ?_
  refine lv_icmp_ge (tgt := 190) hx hb dX0_findsPlace_66 (by decide) (fun c_2 => absurd c_2 (by decide)) (fun c_2 => ?_)
  refine lv_aload_n hx hb dX0_findsPlace_69 rfl (lv_at hl 3 rfl) ?_
  refine va_get (D := G) (ci := 0) (C := RX0) (T := TX0) (N := 32) hx hb hts in_X0 hown hK hP 0 xk_this rfl 2 (by decide) (hts _ q635) (fun _ h => h) rfl dX0_findsPlace_70 ?_
  refine lv_aload_n hx hb dX0_findsPlace_73 rfl (lv_at hl 3 rfl) ?_
  refine va_get (D := G) (ci := 0) (C := RX0) (T := TX0) (N := 32) hx hb hts in_X0 hown hK hP 0 xk_this rfl 26 (by decide) (hts _ q659) (fun _ h => h) rfl dX0_findsPlace_74 ?_
  refine lv_aload_n hx hb dX0_findsPlace_77 rfl (lv_at hl 3 rfl) ?_
  refine va_get (D := G) (ci := 0) (C := RX0) (T := TX0) (N := 32) hx hb hts in_X0 hown hK hP 0 xk_this rfl 20 (by decide) (hts _ q653) (fun _ h => h) rfl dX0_findsPlace_78 ?_
  refine lv_iconst (v := 0) hx hb dX0_findsPlace_81 (by decide) ?_
  refine xq_aald (r := .ref (a (27 + 0))) hx hb hK hP 26 12 xk_starArms rfl rfl 0 (nI_q 0) (by decide) (by decide) rfl dX0_findsPlace_82 ?_
  refine xl_dot hx hb hml hown hts hK (f := (lay3 one dir (36 * 0 + 3 * ii))) (g := (rowF starArms 0)) (x_two hP (i := 49) (j := (27 + 0)) xk_one (xr_starArms (by decide))) (xE_dot hE) (hE.dot.kept hS) hl.1 dX0_findsPlace_83 (Nat.le_of_ble_eq_true rfl) (Nat.le_of_ble_eq_true rfl) (Nat.le_of_ble_eq_true rfl) ?_
  refine r_topl (y := (dotB dir (36 * 0 + 3 * ii) (rowF starArms 0))) (dotL_lay ..) ?_
  refine lv_aload_n hx hb dX0_findsPlace_88 rfl (lv_at hl 3 rfl) ?_
  refine va_get (D := G) (ci := 0) (C := RX0) (T := TX0) (N := 32) hx hb hts in_X0 hown hK hP 0 xk_this rfl 21 (by decide) (hts _ q654) (fun _ h => h) rfl dX0_findsPlace_89 ?_
  refine lv_iconst (v := 0) hx hb dX0_findsPlace_92 (by decide) ?_
  refine xq_aald (r := .ref (a (31 + 0))) hx hb hK hP 30 12 xk_spotArms rfl rfl 0 (nI_q 0) (by decide) (by decide) rfl dX0_findsPlace_93 ?_
  refine lv_iload hx hb dX0_findsPlace_94 (lv_at hl 0 rfl) ?_
  refine r_lald hx hb hK hP (31 + 0) 1 (xr_spotArms (by decide)) rfl 0 (nI_q 0) (by decide) (by decide) dX0_findsPlace_96 ?_
  refine r_topl (y := (spotArms (3 * 0 + 0))) rfl ?_
  refine lv_lmul hx hb dX0_findsPlace_97 ?_
  refine lv_lload hx hb dX0_findsPlace_98 (lv_at hl 1 rfl) ?_
  refine lv_lmul hx hb dX0_findsPlace_100 ?_
  refine lv_aload_n hx hb dX0_findsPlace_101 rfl (lv_at hl 3 rfl) ?_
  refine va_get (D := G) (ci := 0) (C := RX0) (T := TX0) (N := 32) hx hb hts in_X0 hown hK hP 0 xk_this rfl 2 (by decide) (hts _ q635) (fun _ h => h) rfl dX0_findsPlace_102 ?_
  refine lv_aload_n hx hb dX0_findsPlace_105 rfl (lv_at hl 3 rfl) ?_
  refine va_get (D := G) (ci := 0) (C := RX0) (T := TX0) (N := 32) hx hb hts in_X0 hown hK hP 0 xk_this rfl 26 (by decide) (hts _ q659) (fun _ h => h) rfl dX0_findsPlace_106 ?_
  refine lv_aload_n hx hb dX0_findsPlace_109 rfl (lv_at hl 3 rfl) ?_
  refine va_get (D := G) (ci := 0) (C := RX0) (T := TX0) (N := 32) hx hb hts in_X0 hown hK hP 0 xk_this rfl 20 (by decide) (hts _ q653) (fun _ h => h) rfl dX0_findsPlace_110 ?_
  refine lv_iconst (v := 1) hx hb dX0_findsPlace_113 (by decide) ?_
  refine xq_aald (r := .ref (a (27 + 1))) hx hb hK hP 26 12 xk_starArms rfl rfl 1 (nI_q 1) (by decide) (by decide) rfl dX0_findsPlace_114 ?_
  refine xl_dot hx hb hml hown hts hK (f := (lay3 one dir (36 * 0 + 3 * ii))) (g := (rowF starArms 1)) (x_two hP (i := 49) (j := (27 + 1)) xk_one (xr_starArms (by decide))) (xE_dot hE) (hE.dot.kept hS) hl.1 dX0_findsPlace_115 (Nat.le_of_ble_eq_true rfl) (Nat.le_of_ble_eq_true rfl) (Nat.le_of_ble_eq_true rfl) ?_
  refine r_topl (y := (dotB dir (36 * 0 + 3 * ii) (rowF starArms 1))) (dotL_lay ..) ?_
  refine lv_aload_n hx hb dX0_findsPlace_120 rfl (lv_at hl 3 rfl) ?_
  refine va_get (D := G) (ci := 0) (C := RX0) (T := TX0) (N := 32) hx hb hts in_X0 hown hK hP 0 xk_this rfl 21 (by decide) (hts _ q654) (fun _ h => h) rfl dX0_findsPlace_121 ?_
  refine lv_iconst (v := 1) hx hb dX0_findsPlace_124 (by decide) ?_
  refine xq_aald (r := .ref (a (31 + 1))) hx hb hK hP 30 12 xk_spotArms rfl rfl 1 (nI_q 1) (by decide) (by decide) rfl dX0_findsPlace_125 ?_
  refine lv_iload hx hb dX0_findsPlace_126 (lv_at hl 0 rfl) ?_
  refine r_lald hx hb hK hP (31 + 1) 1 (xr_spotArms (by decide)) rfl 0 (nI_q 0) (by decide) (by decide) dX0_findsPlace_128 ?_
  refine r_topl (y := (spotArms (3 * 1 + 0))) rfl ?_
  refine lv_lmul hx hb dX0_findsPlace_129 ?_
  refine lv_lload_n hx hb dX0_findsPlace_130 rfl (lv_at hl 2 rfl) ?_
  refine lv_lmul hx hb dX0_findsPlace_131 ?_
  refine lv_ladd hx hb dX0_findsPlace_132 ?_
  refine lv_aload_n hx hb dX0_findsPlace_133 rfl (lv_at hl 3 rfl) ?_
  refine va_get (D := G) (ci := 0) (C := RX0) (T := TX0) (N := 32) hx hb hts in_X0 hown hK hP 0 xk_this rfl 2 (by decide) (hts _ q635) (fun _ h => h) rfl dX0_findsPlace_134 ?_
  refine lv_aload_n hx hb dX0_findsPlace_137 rfl (lv_at hl 3 rfl) ?_
  refine va_get (D := G) (ci := 0) (C := RX0) (T := TX0) (N := 32) hx hb hts in_X0 hown hK hP 0 xk_this rfl 26 (by decide) (hts _ q659) (fun _ h => h) rfl dX0_findsPlace_138 ?_
  refine lv_aload_n hx hb dX0_findsPlace_141 rfl (lv_at hl 3 rfl) ?_
  refine va_get (D := G) (ci := 0) (C := RX0) (T := TX0) (N := 32) hx hb hts in_X0 hown hK hP 0 xk_this rfl 20 (by decide) (hts _ q653) (fun _ h => h) rfl dX0_findsPlace_142 ?_
  refine lv_iconst (v := 2) hx hb dX0_findsPlace_145 (by decide) ?_
  refine xq_aald (r := .ref (a (27 + 2))) hx hb hK hP 26 12 xk_starArms rfl rfl 2 (nI_q 2) (by decide) (by decide) rfl dX0_findsPlace_146 ?_
  refine xl_dot hx hb hml hown hts hK (f := (lay3 one dir (36 * 0 + 3 * ii))) (g := (rowF starArms 2)) (x_two hP (i := 49) (j := (27 + 2)) xk_one (xr_starArms (by decide))) (xE_dot hE) (hE.dot.kept hS) hl.1 dX0_findsPlace_147 (Nat.le_of_ble_eq_true rfl) (Nat.le_of_ble_eq_true rfl) (Nat.le_of_ble_eq_true rfl) ?_
  refine r_topl (y := (dotB dir (36 * 0 + 3 * ii) (rowF starArms 2))) (dotL_lay ..) ?_
  refine lv_aload_n hx hb dX0_findsPlace_152 rfl (lv_at hl 3 rfl) ?_
  refine va_get (D := G) (ci := 0) (C := RX0) (T := TX0) (N := 32) hx hb hts in_X0 hown hK hP 0 xk_this rfl 21 (by decide) (hts _ q654) (fun _ h => h) rfl dX0_findsPlace_153 ?_
  refine lv_iconst (v := 2) hx hb dX0_findsPlace_156 (by decide) ?_
  refine xq_aald (r := .ref (a (31 + 2))) hx hb hK hP 30 12 xk_spotArms rfl rfl 2 (nI_q 2) (by decide) (by decide) rfl dX0_findsPlace_157 ?_
  refine lv_iload hx hb dX0_findsPlace_158 (lv_at hl 0 rfl) ?_
  refine r_lald hx hb hK hP (31 + 2) 1 (xr_spotArms (by decide)) rfl 0 (nI_q 0) (by decide) (by decide) dX0_findsPlace_160 ?_
  refine r_topl (y := (spotArms (3 * 2 + 0))) rfl ?_
  refine lv_lmul hx hb dX0_findsPlace_161 ?_
  refine lv_ladd hx hb dX0_findsPlace_162 ?_
  refine r_topl (y := (sumX dir (36 * 0 + 3 * ii) starArms spotArms 0)) rfl ?_
  refine lv_lstore (lv' := [(7, .long (sumX dir (36 * 0 + 3 * ii) starArms spotArms 0)), (6, .int 0), (4, .long (sq starArms 1)), (2, .long (sq starArms 0)), (0, .ref (a 0)), (1, .int (nI ii))]) hx hb dX0_findsPlace_163 hl (by decide) rfl (fun ls hl => ?_)
  refine lv_aload_n hx hb dX0_findsPlace_165 rfl (lv_at hl 4 rfl) ?_
  refine va_get (D := G) (ci := 0) (C := RX0) (T := TX0) (N := 32) hx hb hts in_X0 hown hK hP 0 xk_this rfl 23 (by decide) (hts _ q656) (fun _ h => h) rfl dX0_findsPlace_166 ?_
  refine lv_iload_n hx hb dX0_findsPlace_169 rfl (lv_at hl 5 rfl) ?_
  refine xq_aald (r := .ref (a (35 + ii))) hx hb hK hP 34 11 xk_places rfl rfl ii rfl (by omega) (by decide) rfl dX0_findsPlace_170 ?_
  refine lv_iload hx hb dX0_findsPlace_171 (lv_at hl 1 rfl) ?_
  refine lv_lload hx hb dX0_findsPlace_173 (lv_at hl 0 rfl) ?_
  refine lv_lload_n hx hb dX0_findsPlace_175 rfl (lv_at hl 3 rfl) ?_
  refine lv_lload hx hb dX0_findsPlace_176 (lv_at hl 2 rfl) ?_
  refine lv_lmul hx hb dX0_findsPlace_178 ?_
  refine vp_callSl (W.runS (As := [.long (sumX dir (36 * 0 + 3 * ii) starArms spotArms 0), .long ((sq starArms 0) * (sq starArms 1))]) (rest := [.int 0, .ref (a (35 + ii))]) ⟨hx, hb, hml, hown, hts⟩ (mx_rounded l (sumX dir (36 * 0 + 3 * ii) starArms spotArms 0) ((sq starArms 0) * (sq starArms 1)) hnz) (va_cwS 2 hts (lw_S q343 q344 q80 q345) rfl rfl rfl cd_X0_rounded.2 ⟨Nat.le_of_ble_eq_true rfl, Nat.le_of_ble_eq_true rfl⟩) ⟨pT_fb, fun U hU hW => ⟨rfl, trivial⟩⟩ rfl rfl hl.1 rfl (lv_room (Nat.le_of_ble_eq_true rfl)) dX0_findsPlace_179 ⟨Nat.le_of_ble_eq_true rfl, Nat.le_of_ble_eq_true rfl⟩) (fun r hr => ?_)
  subst hr
  refine lv_l2i (v := (floX (2 * (sumX dir (36 * 0 + 3 * ii) starArms spotArms 0) + ((sq starArms 0) * (sq starArms 1))) (2 * ((sq starArms 0) * (sq starArms 1))) : Int64).toInt32) hx hb dX0_findsPlace_182 rfl ?_
  refine r_top (y := (crdX dir (36 * 0 + 3 * ii) starArms spotArms 0)) rfl ?_
  refine r_iast hx hb hK hP (xD hD) hS (35 + ii) 0 (xr_places (by omega)) rfl 0 (nI_q 0) (by decide) (by decide) dX0_findsPlace_183 rfl (fun H locs hP hS => ?_)
  have hP : va_P G vwCl (Xx t a K many settings isVoted lotsNow seen keyOne keyTwo votes looked matched without trio takenStar takenAs takenSpot pairs starArms spotArms isTurn (upd places (3 * ii + 0) (crdX dir (36 * 0 + 3 * ii) starArms spotArms 0)) byStar byFar (lay3 one dir (36 * 0 + 3 * ii)) usedNow laidMany finding) H := xt_places (by omega) (by decide) hP
  refine lv_iinc (v := 1) (lv' := [(6, .int 1), (7, .long (sumX dir (36 * 0 + 3 * ii) starArms spotArms 0)), (4, .long (sq starArms 1)), (2, .long (sq starArms 0)), (0, .ref (a 0)), (1, .int (nI ii))]) hx hb dX0_findsPlace_184 hl (k := 1) rfl (by decide) (by decide) rfl (fun ls hl => ?_)
  refine lv_goto (tgt := 63) hx hb dX0_findsPlace_187 (by decide) ?_
  refine lv_iload hx hb dX0_findsPlace_63 (lv_at hl 0 rfl) ?_
  refine lv_iconst (v := 3) hx hb dX0_findsPlace_65 (by decide) ?_
  refine lv_icmp_ge (tgt := 190) hx hb dX0_findsPlace_66 (by decide) (fun c_3 => absurd c_3 (by decide)) (fun c_3 => ?_)
  refine lv_aload_n hx hb dX0_findsPlace_69 rfl (lv_at hl 4 rfl) ?_
  refine va_get (D := G) (ci := 0) (C := RX0) (T := TX0) (N := 32) hx hb hts in_X0 hown hK hP 0 xk_this rfl 2 (by decide) (hts _ q635) (fun _ h => h) rfl dX0_findsPlace_70 ?_
  refine lv_aload_n hx hb dX0_findsPlace_73 rfl (lv_at hl 4 rfl) ?_
  refine va_get (D := G) (ci := 0) (C := RX0) (T := TX0) (N := 32) hx hb hts in_X0 hown hK hP 0 xk_this rfl 26 (by decide) (hts _ q659) (fun _ h => h) rfl dX0_findsPlace_74 ?_
  refine lv_aload_n hx hb dX0_findsPlace_77 rfl (lv_at hl 4 rfl) ?_
  refine va_get (D := G) (ci := 0) (C := RX0) (T := TX0) (N := 32) hx hb hts in_X0 hown hK hP 0 xk_this rfl 20 (by decide) (hts _ q653) (fun _ h => h) rfl dX0_findsPlace_78 ?_
  refine lv_iconst (v := 0) hx hb dX0_findsPlace_81 (by decide) ?_
  refine xq_aald (r := .ref (a (27 + 0))) hx hb hK hP 26 12 xk_starArms rfl rfl 0 (nI_q 0) (by decide) (by decide) rfl dX0_findsPlace_82 ?_
  refine xl_dot hx hb hml hown hts hK (f := (lay3 one dir (36 * 0 + 3 * ii))) (g := (rowF starArms 0)) (x_two hP (i := 49) (j := (27 + 0)) xk_one (xr_starArms (by decide))) (xE_dot hE) (hE.dot.kept hS) hl.1 dX0_findsPlace_83 (Nat.le_of_ble_eq_true rfl) (Nat.le_of_ble_eq_true rfl) (Nat.le_of_ble_eq_true rfl) ?_
  refine r_topl (y := (dotB dir (36 * 0 + 3 * ii) (rowF starArms 0))) (dotL_lay ..) ?_
  refine lv_aload_n hx hb dX0_findsPlace_88 rfl (lv_at hl 4 rfl) ?_
  refine va_get (D := G) (ci := 0) (C := RX0) (T := TX0) (N := 32) hx hb hts in_X0 hown hK hP 0 xk_this rfl 21 (by decide) (hts _ q654) (fun _ h => h) rfl dX0_findsPlace_89 ?_
  refine lv_iconst (v := 0) hx hb dX0_findsPlace_92 (by decide) ?_
  refine xq_aald (r := .ref (a (31 + 0))) hx hb hK hP 30 12 xk_spotArms rfl rfl 0 (nI_q 0) (by decide) (by decide) rfl dX0_findsPlace_93 ?_
  refine lv_iload hx hb dX0_findsPlace_94 (lv_at hl 0 rfl) ?_
  refine r_lald hx hb hK hP (31 + 0) 1 (xr_spotArms (by decide)) rfl 1 (nI_q 1) (by decide) (by decide) dX0_findsPlace_96 ?_
  refine r_topl (y := (spotArms (3 * 0 + 1))) rfl ?_
  refine lv_lmul hx hb dX0_findsPlace_97 ?_
  refine lv_lload hx hb dX0_findsPlace_98 (lv_at hl 2 rfl) ?_
  refine lv_lmul hx hb dX0_findsPlace_100 ?_
  refine lv_aload_n hx hb dX0_findsPlace_101 rfl (lv_at hl 4 rfl) ?_
  refine va_get (D := G) (ci := 0) (C := RX0) (T := TX0) (N := 32) hx hb hts in_X0 hown hK hP 0 xk_this rfl 2 (by decide) (hts _ q635) (fun _ h => h) rfl dX0_findsPlace_102 ?_
  refine lv_aload_n hx hb dX0_findsPlace_105 rfl (lv_at hl 4 rfl) ?_
  refine va_get (D := G) (ci := 0) (C := RX0) (T := TX0) (N := 32) hx hb hts in_X0 hown hK hP 0 xk_this rfl 26 (by decide) (hts _ q659) (fun _ h => h) rfl dX0_findsPlace_106 ?_
  refine lv_aload_n hx hb dX0_findsPlace_109 rfl (lv_at hl 4 rfl) ?_
  refine va_get (D := G) (ci := 0) (C := RX0) (T := TX0) (N := 32) hx hb hts in_X0 hown hK hP 0 xk_this rfl 20 (by decide) (hts _ q653) (fun _ h => h) rfl dX0_findsPlace_110 ?_
  refine lv_iconst (v := 1) hx hb dX0_findsPlace_113 (by decide) ?_
  refine xq_aald (r := .ref (a (27 + 1))) hx hb hK hP 26 12 xk_starArms rfl rfl 1 (nI_q 1) (by decide) (by decide) rfl dX0_findsPlace_114 ?_
  refine xl_dot hx hb hml hown hts hK (f := (lay3 one dir (36 * 0 + 3 * ii))) (g := (rowF starArms 1)) (x_two hP (i := 49) (j := (27 + 1)) xk_one (xr_starArms (by decide))) (xE_dot hE) (hE.dot.kept hS) hl.1 dX0_findsPlace_115 (Nat.le_of_ble_eq_true rfl) (Nat.le_of_ble_eq_true rfl) (Nat.le_of_ble_eq_true rfl) ?_
  refine r_topl (y := (dotB dir (36 * 0 + 3 * ii) (rowF starArms 1))) (dotL_lay ..) ?_
  refine lv_aload_n hx hb dX0_findsPlace_120 rfl (lv_at hl 4 rfl) ?_
  refine va_get (D := G) (ci := 0) (C := RX0) (T := TX0) (N := 32) hx hb hts in_X0 hown hK hP 0 xk_this rfl 21 (by decide) (hts _ q654) (fun _ h => h) rfl dX0_findsPlace_121 ?_
  refine lv_iconst (v := 1) hx hb dX0_findsPlace_124 (by decide) ?_
  refine xq_aald (r := .ref (a (31 + 1))) hx hb hK hP 30 12 xk_spotArms rfl rfl 1 (nI_q 1) (by decide) (by decide) rfl dX0_findsPlace_125 ?_
  refine lv_iload hx hb dX0_findsPlace_126 (lv_at hl 0 rfl) ?_
  refine r_lald hx hb hK hP (31 + 1) 1 (xr_spotArms (by decide)) rfl 1 (nI_q 1) (by decide) (by decide) dX0_findsPlace_128 ?_
  refine r_topl (y := (spotArms (3 * 1 + 1))) rfl ?_
  refine lv_lmul hx hb dX0_findsPlace_129 ?_
  refine lv_lload_n hx hb dX0_findsPlace_130 rfl (lv_at hl 3 rfl) ?_
  refine lv_lmul hx hb dX0_findsPlace_131 ?_
  refine lv_ladd hx hb dX0_findsPlace_132 ?_
  refine lv_aload_n hx hb dX0_findsPlace_133 rfl (lv_at hl 4 rfl) ?_
  refine va_get (D := G) (ci := 0) (C := RX0) (T := TX0) (N := 32) hx hb hts in_X0 hown hK hP 0 xk_this rfl 2 (by decide) (hts _ q635) (fun _ h => h) rfl dX0_findsPlace_134 ?_
  refine lv_aload_n hx hb dX0_findsPlace_137 rfl (lv_at hl 4 rfl) ?_
  refine va_get (D := G) (ci := 0) (C := RX0) (T := TX0) (N := 32) hx hb hts in_X0 hown hK hP 0 xk_this rfl 26 (by decide) (hts _ q659) (fun _ h => h) rfl dX0_findsPlace_138 ?_
  refine lv_aload_n hx hb dX0_findsPlace_141 rfl (lv_at hl 4 rfl) ?_
  refine va_get (D := G) (ci := 0) (C := RX0) (T := TX0) (N := 32) hx hb hts in_X0 hown hK hP 0 xk_this rfl 20 (by decide) (hts _ q653) (fun _ h => h) rfl dX0_findsPlace_142 ?_
  refine lv_iconst (v := 2) hx hb dX0_findsPlace_145 (by decide) ?_
  refine xq_aald (r := .ref (a (27 + 2))) hx hb hK hP 26 12 xk_starArms rfl rfl 2 (nI_q 2) (by decide) (by decide) rfl dX0_findsPlace_146 ?_
  refine xl_dot hx hb hml hown hts hK (f := (lay3 one dir (36 * 0 + 3 * ii))) (g := (rowF starArms 2)) (x_two hP (i := 49) (j := (27 + 2)) xk_one (xr_starArms (by decide))) (xE_dot hE) (hE.dot.kept hS) hl.1 dX0_findsPlace_147 (Nat.le_of_ble_eq_true rfl) (Nat.le_of_ble_eq_true rfl) (Nat.le_of_ble_eq_true rfl) ?_
  refine r_topl (y := (dotB dir (36 * 0 + 3 * ii) (rowF starArms 2))) (dotL_lay ..) ?_
  refine lv_aload_n hx hb dX0_findsPlace_152 rfl (lv_at hl 4 rfl) ?_
  refine va_get (D := G) (ci := 0) (C := RX0) (T := TX0) (N := 32) hx hb hts in_X0 hown hK hP 0 xk_this rfl 21 (by decide) (hts _ q654) (fun _ h => h) rfl dX0_findsPlace_153 ?_
  refine lv_iconst (v := 2) hx hb dX0_findsPlace_156 (by decide) ?_
  refine xq_aald (r := .ref (a (31 + 2))) hx hb hK hP 30 12 xk_spotArms rfl rfl 2 (nI_q 2) (by decide) (by decide) rfl dX0_findsPlace_157 ?_
  refine lv_iload hx hb dX0_findsPlace_158 (lv_at hl 0 rfl) ?_
  refine r_lald hx hb hK hP (31 + 2) 1 (xr_spotArms (by decide)) rfl 1 (nI_q 1) (by decide) (by decide) dX0_findsPlace_160 ?_
  refine r_topl (y := (spotArms (3 * 2 + 1))) rfl ?_
  refine lv_lmul hx hb dX0_findsPlace_161 ?_
  refine lv_ladd hx hb dX0_findsPlace_162 ?_
  refine r_topl (y := (sumX dir (36 * 0 + 3 * ii) starArms spotArms 1)) rfl ?_
  refine lv_lstore (lv' := [(7, .long (sumX dir (36 * 0 + 3 * ii) starArms spotArms 1)), (6, .int 1), (4, .long (sq starArms 1)), (2, .long (sq starArms 0)), (0, .ref (a 0)), (1, .int (nI ii))]) hx hb dX0_findsPlace_163 hl (by decide) rfl (fun ls hl => ?_)
  refine lv_aload_n hx hb dX0_findsPlace_165 rfl (lv_at hl 4 rfl) ?_
  refine va_get (D := G) (ci := 0) (C := RX0) (T := TX0) (N := 32) hx hb hts in_X0 hown hK hP 0 xk_this rfl 23 (by decide) (hts _ q656) (fun _ h => h) rfl dX0_findsPlace_166 ?_
  refine lv_iload_n hx hb dX0_findsPlace_169 rfl (lv_at hl 5 rfl) ?_
  refine xq_aald (r := .ref (a (35 + ii))) hx hb hK hP 34 11 xk_places rfl rfl ii rfl (by omega) (by decide) rfl dX0_findsPlace_170 ?_
  refine lv_iload hx hb dX0_findsPlace_171 (lv_at hl 1 rfl) ?_
  refine lv_lload hx hb dX0_findsPlace_173 (lv_at hl 0 rfl) ?_
  refine lv_lload_n hx hb dX0_findsPlace_175 rfl (lv_at hl 3 rfl) ?_
  refine lv_lload hx hb dX0_findsPlace_176 (lv_at hl 2 rfl) ?_
  refine lv_lmul hx hb dX0_findsPlace_178 ?_
  refine vp_callSl (W.runS (As := [.long (sumX dir (36 * 0 + 3 * ii) starArms spotArms 1), .long ((sq starArms 0) * (sq starArms 1))]) (rest := [.int 1, .ref (a (35 + ii))]) ⟨hx, hb, hml, hown, hts⟩ (mx_rounded l (sumX dir (36 * 0 + 3 * ii) starArms spotArms 1) ((sq starArms 0) * (sq starArms 1)) hnz) (va_cwS 2 hts (lw_S q343 q344 q80 q345) rfl rfl rfl cd_X0_rounded.2 ⟨Nat.le_of_ble_eq_true rfl, Nat.le_of_ble_eq_true rfl⟩) ⟨pT_fb, fun U hU hW => ⟨rfl, trivial⟩⟩ rfl rfl hl.1 rfl (lv_room (Nat.le_of_ble_eq_true rfl)) dX0_findsPlace_179 ⟨Nat.le_of_ble_eq_true rfl, Nat.le_of_ble_eq_true rfl⟩) (fun r hr => ?_)
  subst hr
  refine lv_l2i (v := (floX (2 * (sumX dir (36 * 0 + 3 * ii) starArms spotArms 1) + ((sq starArms 0) * (sq starArms 1))) (2 * ((sq starArms 0) * (sq starArms 1))) : Int64).toInt32) hx hb dX0_findsPlace_182 rfl ?_
  refine r_top (y := (crdX dir (36 * 0 + 3 * ii) starArms spotArms 1)) rfl ?_
  refine r_iast hx hb hK hP (xD hD) hS (35 + ii) 0 (xr_places (by omega)) rfl 1 (nI_q 1) (by decide) (by decide) dX0_findsPlace_183 rfl (fun H locs hP hS => ?_)
  have hP : va_P G vwCl (Xx t a K many settings isVoted lotsNow seen keyOne keyTwo votes looked matched without trio takenStar takenAs takenSpot pairs starArms spotArms isTurn (upd (upd places (3 * ii + 0) (crdX dir (36 * 0 + 3 * ii) starArms spotArms 0)) (3 * ii + 1) (crdX dir (36 * 0 + 3 * ii) starArms spotArms 1)) byStar byFar (lay3 one dir (36 * 0 + 3 * ii)) usedNow laidMany finding) H := xt_places (by omega) (by decide) hP
  refine lv_iinc (v := 2) (lv' := [(6, .int 2), (7, .long (sumX dir (36 * 0 + 3 * ii) starArms spotArms 1)), (4, .long (sq starArms 1)), (2, .long (sq starArms 0)), (0, .ref (a 0)), (1, .int (nI ii))]) hx hb dX0_findsPlace_184 hl (k := 1) rfl (by decide) (by decide) rfl (fun ls hl => ?_)
  refine lv_goto (tgt := 63) hx hb dX0_findsPlace_187 (by decide) ?_
  refine lv_iload hx hb dX0_findsPlace_63 (lv_at hl 0 rfl) ?_
  refine lv_iconst (v := 3) hx hb dX0_findsPlace_65 (by decide) ?_
  refine lv_icmp_ge (tgt := 190) hx hb dX0_findsPlace_66 (by decide) (fun c_4 => absurd c_4 (by decide)) (fun c_4 => ?_)
  refine lv_aload_n hx hb dX0_findsPlace_69 rfl (lv_at hl 4 rfl) ?_
  refine va_get (D := G) (ci := 0) (C := RX0) (T := TX0) (N := 32) hx hb hts in_X0 hown hK hP 0 xk_this rfl 2 (by decide) (hts _ q635) (fun _ h => h) rfl dX0_findsPlace_70 ?_
  refine lv_aload_n hx hb dX0_findsPlace_73 rfl (lv_at hl 4 rfl) ?_
  refine va_get (D := G) (ci := 0) (C := RX0) (T := TX0) (N := 32) hx hb hts in_X0 hown hK hP 0 xk_this rfl 26 (by decide) (hts _ q659) (fun _ h => h) rfl dX0_findsPlace_74 ?_
  refine lv_aload_n hx hb dX0_findsPlace_77 rfl (lv_at hl 4 rfl) ?_
  refine va_get (D := G) (ci := 0) (C := RX0) (T := TX0) (N := 32) hx hb hts in_X0 hown hK hP 0 xk_this rfl 20 (by decide) (hts _ q653) (fun _ h => h) rfl dX0_findsPlace_78 ?_
  refine lv_iconst (v := 0) hx hb dX0_findsPlace_81 (by decide) ?_
  refine xq_aald (r := .ref (a (27 + 0))) hx hb hK hP 26 12 xk_starArms rfl rfl 0 (nI_q 0) (by decide) (by decide) rfl dX0_findsPlace_82 ?_
  refine xl_dot hx hb hml hown hts hK (f := (lay3 one dir (36 * 0 + 3 * ii))) (g := (rowF starArms 0)) (x_two hP (i := 49) (j := (27 + 0)) xk_one (xr_starArms (by decide))) (xE_dot hE) (hE.dot.kept hS) hl.1 dX0_findsPlace_83 (Nat.le_of_ble_eq_true rfl) (Nat.le_of_ble_eq_true rfl) (Nat.le_of_ble_eq_true rfl) ?_
  refine r_topl (y := (dotB dir (36 * 0 + 3 * ii) (rowF starArms 0))) (dotL_lay ..) ?_
  refine lv_aload_n hx hb dX0_findsPlace_88 rfl (lv_at hl 4 rfl) ?_
  refine va_get (D := G) (ci := 0) (C := RX0) (T := TX0) (N := 32) hx hb hts in_X0 hown hK hP 0 xk_this rfl 21 (by decide) (hts _ q654) (fun _ h => h) rfl dX0_findsPlace_89 ?_
  refine lv_iconst (v := 0) hx hb dX0_findsPlace_92 (by decide) ?_
  refine xq_aald (r := .ref (a (31 + 0))) hx hb hK hP 30 12 xk_spotArms rfl rfl 0 (nI_q 0) (by decide) (by decide) rfl dX0_findsPlace_93 ?_
  refine lv_iload hx hb dX0_findsPlace_94 (lv_at hl 0 rfl) ?_
  refine r_lald hx hb hK hP (31 + 0) 1 (xr_spotArms (by decide)) rfl 2 (nI_q 2) (by decide) (by decide) dX0_findsPlace_96 ?_
  refine r_topl (y := (spotArms (3 * 0 + 2))) rfl ?_
  refine lv_lmul hx hb dX0_findsPlace_97 ?_
  refine lv_lload hx hb dX0_findsPlace_98 (lv_at hl 2 rfl) ?_
  refine lv_lmul hx hb dX0_findsPlace_100 ?_
  refine lv_aload_n hx hb dX0_findsPlace_101 rfl (lv_at hl 4 rfl) ?_
  refine va_get (D := G) (ci := 0) (C := RX0) (T := TX0) (N := 32) hx hb hts in_X0 hown hK hP 0 xk_this rfl 2 (by decide) (hts _ q635) (fun _ h => h) rfl dX0_findsPlace_102 ?_
  refine lv_aload_n hx hb dX0_findsPlace_105 rfl (lv_at hl 4 rfl) ?_
  refine va_get (D := G) (ci := 0) (C := RX0) (T := TX0) (N := 32) hx hb hts in_X0 hown hK hP 0 xk_this rfl 26 (by decide) (hts _ q659) (fun _ h => h) rfl dX0_findsPlace_106 ?_
  refine lv_aload_n hx hb dX0_findsPlace_109 rfl (lv_at hl 4 rfl) ?_
  refine va_get (D := G) (ci := 0) (C := RX0) (T := TX0) (N := 32) hx hb hts in_X0 hown hK hP 0 xk_this rfl 20 (by decide) (hts _ q653) (fun _ h => h) rfl dX0_findsPlace_110 ?_
  refine lv_iconst (v := 1) hx hb dX0_findsPlace_113 (by decide) ?_
  refine xq_aald (r := .ref (a (27 + 1))) hx hb hK hP 26 12 xk_starArms rfl rfl 1 (nI_q 1) (by decide) (by decide) rfl dX0_findsPlace_114 ?_
  refine xl_dot hx hb hml hown hts hK (f := (lay3 one dir (36 * 0 + 3 * ii))) (g := (rowF starArms 1)) (x_two hP (i := 49) (j := (27 + 1)) xk_one (xr_starArms (by decide))) (xE_dot hE) (hE.dot.kept hS) hl.1 dX0_findsPlace_115 (Nat.le_of_ble_eq_true rfl) (Nat.le_of_ble_eq_true rfl) (Nat.le_of_ble_eq_true rfl) ?_
  refine r_topl (y := (dotB dir (36 * 0 + 3 * ii) (rowF starArms 1))) (dotL_lay ..) ?_
  refine lv_aload_n hx hb dX0_findsPlace_120 rfl (lv_at hl 4 rfl) ?_
  refine va_get (D := G) (ci := 0) (C := RX0) (T := TX0) (N := 32) hx hb hts in_X0 hown hK hP 0 xk_this rfl 21 (by decide) (hts _ q654) (fun _ h => h) rfl dX0_findsPlace_121 ?_
  refine lv_iconst (v := 1) hx hb dX0_findsPlace_124 (by decide) ?_
  refine xq_aald (r := .ref (a (31 + 1))) hx hb hK hP 30 12 xk_spotArms rfl rfl 1 (nI_q 1) (by decide) (by decide) rfl dX0_findsPlace_125 ?_
  refine lv_iload hx hb dX0_findsPlace_126 (lv_at hl 0 rfl) ?_
  refine r_lald hx hb hK hP (31 + 1) 1 (xr_spotArms (by decide)) rfl 2 (nI_q 2) (by decide) (by decide) dX0_findsPlace_128 ?_
  refine r_topl (y := (spotArms (3 * 1 + 2))) rfl ?_
  refine lv_lmul hx hb dX0_findsPlace_129 ?_
  refine lv_lload_n hx hb dX0_findsPlace_130 rfl (lv_at hl 3 rfl) ?_
  refine lv_lmul hx hb dX0_findsPlace_131 ?_
  refine lv_ladd hx hb dX0_findsPlace_132 ?_
  refine lv_aload_n hx hb dX0_findsPlace_133 rfl (lv_at hl 4 rfl) ?_
  refine va_get (D := G) (ci := 0) (C := RX0) (T := TX0) (N := 32) hx hb hts in_X0 hown hK hP 0 xk_this rfl 2 (by decide) (hts _ q635) (fun _ h => h) rfl dX0_findsPlace_134 ?_
  refine lv_aload_n hx hb dX0_findsPlace_137 rfl (lv_at hl 4 rfl) ?_
  refine va_get (D := G) (ci := 0) (C := RX0) (T := TX0) (N := 32) hx hb hts in_X0 hown hK hP 0 xk_this rfl 26 (by decide) (hts _ q659) (fun _ h => h) rfl dX0_findsPlace_138 ?_
  refine lv_aload_n hx hb dX0_findsPlace_141 rfl (lv_at hl 4 rfl) ?_
  refine va_get (D := G) (ci := 0) (C := RX0) (T := TX0) (N := 32) hx hb hts in_X0 hown hK hP 0 xk_this rfl 20 (by decide) (hts _ q653) (fun _ h => h) rfl dX0_findsPlace_142 ?_
  refine lv_iconst (v := 2) hx hb dX0_findsPlace_145 (by decide) ?_
  refine xq_aald (r := .ref (a (27 + 2))) hx hb hK hP 26 12 xk_starArms rfl rfl 2 (nI_q 2) (by decide) (by decide) rfl dX0_findsPlace_146 ?_
  refine xl_dot hx hb hml hown hts hK (f := (lay3 one dir (36 * 0 + 3 * ii))) (g := (rowF starArms 2)) (x_two hP (i := 49) (j := (27 + 2)) xk_one (xr_starArms (by decide))) (xE_dot hE) (hE.dot.kept hS) hl.1 dX0_findsPlace_147 (Nat.le_of_ble_eq_true rfl) (Nat.le_of_ble_eq_true rfl) (Nat.le_of_ble_eq_true rfl) ?_
  refine r_topl (y := (dotB dir (36 * 0 + 3 * ii) (rowF starArms 2))) (dotL_lay ..) ?_
  refine lv_aload_n hx hb dX0_findsPlace_152 rfl (lv_at hl 4 rfl) ?_
  refine va_get (D := G) (ci := 0) (C := RX0) (T := TX0) (N := 32) hx hb hts in_X0 hown hK hP 0 xk_this rfl 21 (by decide) (hts _ q654) (fun _ h => h) rfl dX0_findsPlace_153 ?_
  refine lv_iconst (v := 2) hx hb dX0_findsPlace_156 (by decide) ?_
  refine xq_aald (r := .ref (a (31 + 2))) hx hb hK hP 30 12 xk_spotArms rfl rfl 2 (nI_q 2) (by decide) (by decide) rfl dX0_findsPlace_157 ?_
  refine lv_iload hx hb dX0_findsPlace_158 (lv_at hl 0 rfl) ?_
  refine r_lald hx hb hK hP (31 + 2) 1 (xr_spotArms (by decide)) rfl 2 (nI_q 2) (by decide) (by decide) dX0_findsPlace_160 ?_
  refine r_topl (y := (spotArms (3 * 2 + 2))) rfl ?_
  refine lv_lmul hx hb dX0_findsPlace_161 ?_
  refine lv_ladd hx hb dX0_findsPlace_162 ?_
  refine r_topl (y := (sumX dir (36 * 0 + 3 * ii) starArms spotArms 2)) rfl ?_
  refine lv_lstore (lv' := [(7, .long (sumX dir (36 * 0 + 3 * ii) starArms spotArms 2)), (6, .int 2), (4, .long (sq starArms 1)), (2, .long (sq starArms 0)), (0, .ref (a 0)), (1, .int (nI ii))]) hx hb dX0_findsPlace_163 hl (by decide) rfl (fun ls hl => ?_)
  refine lv_aload_n hx hb dX0_findsPlace_165 rfl (lv_at hl 4 rfl) ?_
  refine va_get (D := G) (ci := 0) (C := RX0) (T := TX0) (N := 32) hx hb hts in_X0 hown hK hP 0 xk_this rfl 23 (by decide) (hts _ q656) (fun _ h => h) rfl dX0_findsPlace_166 ?_
  refine lv_iload_n hx hb dX0_findsPlace_169 rfl (lv_at hl 5 rfl) ?_
  refine xq_aald (r := .ref (a (35 + ii))) hx hb hK hP 34 11 xk_places rfl rfl ii rfl (by omega) (by decide) rfl dX0_findsPlace_170 ?_
  refine lv_iload hx hb dX0_findsPlace_171 (lv_at hl 1 rfl) ?_
  refine lv_lload hx hb dX0_findsPlace_173 (lv_at hl 0 rfl) ?_
  refine lv_lload_n hx hb dX0_findsPlace_175 rfl (lv_at hl 3 rfl) ?_
  refine lv_lload hx hb dX0_findsPlace_176 (lv_at hl 2 rfl) ?_
  refine lv_lmul hx hb dX0_findsPlace_178 ?_
  refine vp_callSl (W.runS (As := [.long (sumX dir (36 * 0 + 3 * ii) starArms spotArms 2), .long ((sq starArms 0) * (sq starArms 1))]) (rest := [.int 2, .ref (a (35 + ii))]) ⟨hx, hb, hml, hown, hts⟩ (mx_rounded l (sumX dir (36 * 0 + 3 * ii) starArms spotArms 2) ((sq starArms 0) * (sq starArms 1)) hnz) (va_cwS 2 hts (lw_S q343 q344 q80 q345) rfl rfl rfl cd_X0_rounded.2 ⟨Nat.le_of_ble_eq_true rfl, Nat.le_of_ble_eq_true rfl⟩) ⟨pT_fb, fun U hU hW => ⟨rfl, trivial⟩⟩ rfl rfl hl.1 rfl (lv_room (Nat.le_of_ble_eq_true rfl)) dX0_findsPlace_179 ⟨Nat.le_of_ble_eq_true rfl, Nat.le_of_ble_eq_true rfl⟩) (fun r hr => ?_)
  subst hr
  refine lv_l2i (v := (floX (2 * (sumX dir (36 * 0 + 3 * ii) starArms spotArms 2) + ((sq starArms 0) * (sq starArms 1))) (2 * ((sq starArms 0) * (sq starArms 1))) : Int64).toInt32) hx hb dX0_findsPlace_182 rfl ?_
  refine r_top (y := (crdX dir (36 * 0 + 3 * ii) starArms spotArms 2)) rfl ?_
  refine r_iast hx hb hK hP (xD hD) hS (35 + ii) 0 (xr_places (by omega)) rfl 2 (nI_q 2) (by decide) (by decide) dX0_findsPlace_183 rfl (fun H locs hP hS => ?_)
  have hP : va_P G vwCl (Xx t a K many settings isVoted lotsNow seen keyOne keyTwo votes looked matched without trio takenStar takenAs takenSpot pairs starArms spotArms isTurn (upd (upd (upd places (3 * ii + 0) (crdX dir (36 * 0 + 3 * ii) starArms spotArms 0)) (3 * ii + 1) (crdX dir (36 * 0 + 3 * ii) starArms spotArms 1)) (3 * ii + 2) (crdX dir (36 * 0 + 3 * ii) starArms spotArms 2)) byStar byFar (lay3 one dir (36 * 0 + 3 * ii)) usedNow laidMany finding) H := xt_places (by omega) (by decide) hP
  refine lv_iinc (v := 3) (lv' := [(6, .int 3), (7, .long (sumX dir (36 * 0 + 3 * ii) starArms spotArms 2)), (4, .long (sq starArms 1)), (2, .long (sq starArms 0)), (0, .ref (a 0)), (1, .int (nI ii))]) hx hb dX0_findsPlace_184 hl (k := 1) rfl (by decide) (by decide) rfl (fun ls hl => ?_)
  refine lv_goto (tgt := 63) hx hb dX0_findsPlace_187 (by decide) ?_
  refine lv_iload hx hb dX0_findsPlace_63 (lv_at hl 0 rfl) ?_
  refine lv_iconst (v := 3) hx hb dX0_findsPlace_65 (by decide) ?_
  refine lv_icmp_ge (tgt := 190) hx hb dX0_findsPlace_66 (by decide) (fun c_5 => ?_) (fun c_5 => absurd c_5 (by decide))
  have hP : va_P G vwCl (Xx t a K many settings isVoted lotsNow seen keyOne keyTwo votes looked matched without trio takenStar takenAs takenSpot pairs starArms spotArms isTurn (plcX dir starArms spotArms ii places) byStar byFar (lay3 one dir (36 * 0 + 3 * ii)) usedNow laidMany finding) H := by (unfold plcX; exact hP)
  exact W.vret hx hb hr (fun tt ht _ => ⟨⟨((plcX dir starArms spotArms ii places), (lay3 one dir (36 * 0 + 3 * ii))), rfl, rfl, (show va_P G vwCl ((fun (uv : ((Nat → Int32)) × (Nat → Int64)) => Xx t a K many settings isVoted lotsNow seen keyOne keyTwo votes looked matched without trio takenStar takenAs takenSpot pairs starArms spotArms isTurn uv.1 byStar byFar uv.2 usedNow laidMany finding) ((plcX dir starArms spotArms ii places), (lay3 one dir (36 * 0 + 3 * ii)))) tt.heap from by rw [ht]; exact hP)⟩, hS.F ht⟩) hS.2.2 dX0_findsPlace_190 hlk

set_option maxHeartbeats 4000000 in
theorem mx_farOf (l : Launch) (G : va_G) (t : Nat → ClassId) (A : Nat → Prop) (a : Nat → Nat) (cs : Nat → ClassId) (K : XK) (many : (Nat → Int32)) (settings : (Nat → Int32)) (isVoted : Int32) (lotsNow : Int32) (seen : (Nat → Int32)) (keyOne : (Nat → Int32)) (keyTwo : (Nat → Int32)) (votes : (Nat → Int32)) (looked : Int32) (matched : Int32) (without : Int32) (trio : (Nat → Int32)) (takenStar : (Nat → Int32)) (takenAs : (Nat → Int32)) (takenSpot : (Nat → Int32)) (pairs : Int32) (starArms : (Nat → Int64)) (spotArms : (Nat → Int64)) (isTurn : Int32) (places : (Nat → Int32)) (byStar : (Nat → Int32)) (byFar : (Nat → Int32)) (one : (Nat → Int64)) (usedNow : (Nat → Int32)) (laidMany : (Nat → Int32)) (finding : Int32) (dir : (Nat → Int32)) (pp : Nat) (ii : Nat) (hM : Mok many) (hB : BodOk K dir many) (h1 : pp < nK many 1) (h2 : ii < nK many 0) : Met l yX0_farOf (ws_ yX0_farOf cX0_farOf 5 (some .int)) (rm_ 0 1 0 0) (va_Pc [.ref (a 0), .int (nI pp), .int (nI ii)] (xPr G t A a cs K.L (Xx t a K many settings isVoted lotsNow seen keyOne keyTwo votes looked matched without trio takenStar takenAs takenSpot pairs starArms spotArms isTurn places byStar byFar one usedNow laidMany finding))) (vp_Si (fun rv => rv = farX dir places pp ii)) 0 0 (fun _ => False) := by
  refine mkx_W (by decide) (Nat.le_of_ble_eq_true rfl) ?_
  intro p e s m below meth c ls hx hb hml hr hlk hts hown hnm hv hl
  obtain ⟨hP, hK, hD, hA, hE⟩ := hv
  have hS : va_S A s.heap s.heap [] := va_S.rf
  have hl : lv_has ls 5 [(0, .ref (a 0)), (1, .int (nI pp)), (2, .int (nI ii))] := hl
  have h0 : nK many 0 ≤ 12 := (hM 0 (by omega)).2
  have h8 : nK many 1 ≤ 8 := (hM 1 (by omega)).2
  refine lv_iconst (v := 0) hx hb dX0_farOf_0 (by decide) ?_
  refine lv_istore_n (lv' := [(3, .int 0), (0, .ref (a 0)), (1, .int (nI pp)), (2, .int (nI ii))]) hx hb dX0_farOf_1 rfl hl (by decide) rfl (fun ls hl => ?_)
  refine lv_iconst (v := 0) hx hb dX0_farOf_2 (by decide) ?_
  refine lv_istore (lv' := [(4, .int 0), (3, .int 0), (0, .ref (a 0)), (1, .int (nI pp)), (2, .int (nI ii))]) hx hb dX0_farOf_3 hl (by decide) rfl (fun ls hl => ?_)
  refine lv_iload hx hb dX0_farOf_5 (lv_at hl 0 rfl) ?_
  refine lv_iconst (v := 3) hx hb dX0_farOf_7 (by decide) ?_
  refine lv_icmp_ge (tgt := 46) hx hb dX0_farOf_8 (by decide) (fun c_1 => absurd c_1 (by decide)) (fun c_1 => ?_)
  refine lv_iload_n hx hb dX0_farOf_11 rfl (lv_at hl 1 rfl) ?_
  refine lv_aload_n hx hb dX0_farOf_12 rfl (lv_at hl 2 rfl) ?_
  refine va_get (D := G) (ci := 0) (C := RX0) (T := TX0) (N := 32) hx hb hts in_X0 hown hK hP 0 xk_this rfl 23 (by decide) (hts _ q656) (fun _ h => h) rfl dX0_farOf_13 ?_
  refine lv_iload_n hx hb dX0_farOf_16 rfl (lv_at hl 4 rfl) ?_
  refine xq_aald (r := .ref (a (35 + ii))) hx hb hK hP 34 11 xk_places rfl rfl ii rfl (by omega) (by decide) rfl dX0_farOf_17 ?_
  refine lv_iload hx hb dX0_farOf_18 (lv_at hl 0 rfl) ?_
  refine r_iald hx hb hK hP (35 + ii) 0 (xr_places (by omega)) rfl 0 (nI_q 0) (by decide) (by decide) dX0_farOf_20 ?_
  refine r_top (y := (places (3 * ii + 0))) rfl ?_
  refine lv_aload_n hx hb dX0_farOf_21 rfl (lv_at hl 2 rfl) ?_
  refine va_get (D := G) (ci := 0) (C := RX0) (T := TX0) (N := 32) hx hb hts in_X0 hown hK hP 0 xk_this rfl 3 (by decide) (hts _ q636) (fun _ h => h) rfl dX0_farOf_22 ?_
  refine lv_iconst (v := 1) hx hb dX0_farOf_25 (by decide) ?_
  refine xq_aald (r := .ref (a (6 + 1))) hx hb hK hP 5 10 xk_bodies rfl rfl 1 (nI_q 1) (by decide) (by decide) rfl dX0_farOf_26 ?_
  refine lv_iload_n hx hb dX0_farOf_27 rfl (lv_at hl 3 rfl) ?_
  obtain ⟨b_2, eb_2, mb_2, fb_2⟩ := hB 1 pp (by decide) (by omega)
  refine xq_aald (r := .ref b_2) hx hb hK hP (6 + 1) 5 (xr_bodies (by decide)) rfl rfl pp rfl (lt_mx hM (by decide) (by omega)) (mx_1000 _) (by rw [eb_2]; rfl) dX0_farOf_28 ?_
  refine lv_iload hx hb dX0_farOf_29 (lv_at hl 0 rfl) ?_
  refine xb_along (w := 0) hx hb hml hown hts hK (x_pool hP mb_2 fb_2) (by decide) (nI_q 0) (by decide) hl.1 (Nat.le_of_ble_eq_true rfl) (Nat.le_of_ble_eq_true rfl) (Nat.le_of_ble_eq_true rfl) dX0_farOf_31 ?_
  refine lv_isub hx hb dX0_farOf_34 ?_
  refine vp_callSi (W.runS (As := [.int ((places (3 * ii + 0)) - (dir (36 * 1 + 3 * pp + 0)))]) (rest := [.int 0]) ⟨hx, hb, hml, hown, hts⟩ (mx_abs l ((places (3 * ii + 0)) - (dir (36 * 1 + 3 * pp + 0)))) (va_cwS 1 hts (lw_S q287 q288 q87 q289) rfl rfl rfl cd_J0_abs.2 ⟨Nat.le_of_ble_eq_true rfl, Nat.le_of_ble_eq_true rfl⟩) ⟨pT_fb, fun U hU hW => ⟨rfl, trivial⟩⟩ rfl rfl hl.1 rfl (lv_room (Nat.le_of_ble_eq_true rfl)) dX0_farOf_35 ⟨Nat.le_of_ble_eq_true rfl, Nat.le_of_ble_eq_true rfl⟩) (fun r hr => ?_)
  subst hr
  refine lv_iadd hx hb dX0_farOf_38 ?_
  refine lv_istore_n (lv' := [(3, .int (0 + absX ((places (3 * ii + 0)) - (dir (36 * 1 + 3 * pp + 0))))), (4, .int 0), (0, .ref (a 0)), (1, .int (nI pp)), (2, .int (nI ii))]) hx hb dX0_farOf_39 rfl hl (by decide) rfl (fun ls hl => ?_)
  refine lv_iinc (v := 1) (lv' := [(4, .int 1), (3, .int (0 + absX ((places (3 * ii + 0)) - (dir (36 * 1 + 3 * pp + 0))))), (0, .ref (a 0)), (1, .int (nI pp)), (2, .int (nI ii))]) hx hb dX0_farOf_40 hl (k := 1) rfl (by decide) (by decide) rfl (fun ls hl => ?_)
  refine lv_goto (tgt := 5) hx hb dX0_farOf_43 (by decide) ?_
  refine lv_iload hx hb dX0_farOf_5 (lv_at hl 0 rfl) ?_
  refine lv_iconst (v := 3) hx hb dX0_farOf_7 (by decide) ?_
  refine lv_icmp_ge (tgt := 46) hx hb dX0_farOf_8 (by decide) (fun c_3 => absurd c_3 (by decide)) (fun c_3 => ?_)
  refine lv_iload_n hx hb dX0_farOf_11 rfl (lv_at hl 1 rfl) ?_
  refine lv_aload_n hx hb dX0_farOf_12 rfl (lv_at hl 2 rfl) ?_
  refine va_get (D := G) (ci := 0) (C := RX0) (T := TX0) (N := 32) hx hb hts in_X0 hown hK hP 0 xk_this rfl 23 (by decide) (hts _ q656) (fun _ h => h) rfl dX0_farOf_13 ?_
  refine lv_iload_n hx hb dX0_farOf_16 rfl (lv_at hl 4 rfl) ?_
  refine xq_aald (r := .ref (a (35 + ii))) hx hb hK hP 34 11 xk_places rfl rfl ii rfl (by omega) (by decide) rfl dX0_farOf_17 ?_
  refine lv_iload hx hb dX0_farOf_18 (lv_at hl 0 rfl) ?_
  refine r_iald hx hb hK hP (35 + ii) 0 (xr_places (by omega)) rfl 1 (nI_q 1) (by decide) (by decide) dX0_farOf_20 ?_
  refine r_top (y := (places (3 * ii + 1))) rfl ?_
  refine lv_aload_n hx hb dX0_farOf_21 rfl (lv_at hl 2 rfl) ?_
  refine va_get (D := G) (ci := 0) (C := RX0) (T := TX0) (N := 32) hx hb hts in_X0 hown hK hP 0 xk_this rfl 3 (by decide) (hts _ q636) (fun _ h => h) rfl dX0_farOf_22 ?_
  refine lv_iconst (v := 1) hx hb dX0_farOf_25 (by decide) ?_
  refine xq_aald (r := .ref (a (6 + 1))) hx hb hK hP 5 10 xk_bodies rfl rfl 1 (nI_q 1) (by decide) (by decide) rfl dX0_farOf_26 ?_
  refine lv_iload_n hx hb dX0_farOf_27 rfl (lv_at hl 3 rfl) ?_
  obtain ⟨b_4, eb_4, mb_4, fb_4⟩ := hB 1 pp (by decide) (by omega)
  refine xq_aald (r := .ref b_4) hx hb hK hP (6 + 1) 5 (xr_bodies (by decide)) rfl rfl pp rfl (lt_mx hM (by decide) (by omega)) (mx_1000 _) (by rw [eb_4]; rfl) dX0_farOf_28 ?_
  refine lv_iload hx hb dX0_farOf_29 (lv_at hl 0 rfl) ?_
  refine xb_along (w := 1) hx hb hml hown hts hK (x_pool hP mb_4 fb_4) (by decide) (nI_q 1) (by decide) hl.1 (Nat.le_of_ble_eq_true rfl) (Nat.le_of_ble_eq_true rfl) (Nat.le_of_ble_eq_true rfl) dX0_farOf_31 ?_
  refine lv_isub hx hb dX0_farOf_34 ?_
  refine vp_callSi (W.runS (As := [.int ((places (3 * ii + 1)) - (dir (36 * 1 + 3 * pp + 1)))]) (rest := [.int (0 + absX ((places (3 * ii + 0)) - (dir (36 * 1 + 3 * pp + 0))))]) ⟨hx, hb, hml, hown, hts⟩ (mx_abs l ((places (3 * ii + 1)) - (dir (36 * 1 + 3 * pp + 1)))) (va_cwS 1 hts (lw_S q287 q288 q87 q289) rfl rfl rfl cd_J0_abs.2 ⟨Nat.le_of_ble_eq_true rfl, Nat.le_of_ble_eq_true rfl⟩) ⟨pT_fb, fun U hU hW => ⟨rfl, trivial⟩⟩ rfl rfl hl.1 rfl (lv_room (Nat.le_of_ble_eq_true rfl)) dX0_farOf_35 ⟨Nat.le_of_ble_eq_true rfl, Nat.le_of_ble_eq_true rfl⟩) (fun r hr => ?_)
  subst hr
  refine lv_iadd hx hb dX0_farOf_38 ?_
  refine lv_istore_n (lv' := [(3, .int ((0 + absX ((places (3 * ii + 0)) - (dir (36 * 1 + 3 * pp + 0)))) + absX ((places (3 * ii + 1)) - (dir (36 * 1 + 3 * pp + 1))))), (4, .int 1), (0, .ref (a 0)), (1, .int (nI pp)), (2, .int (nI ii))]) hx hb dX0_farOf_39 rfl hl (by decide) rfl (fun ls hl => ?_)
  refine lv_iinc (v := 2) (lv' := [(4, .int 2), (3, .int ((0 + absX ((places (3 * ii + 0)) - (dir (36 * 1 + 3 * pp + 0)))) + absX ((places (3 * ii + 1)) - (dir (36 * 1 + 3 * pp + 1))))), (0, .ref (a 0)), (1, .int (nI pp)), (2, .int (nI ii))]) hx hb dX0_farOf_40 hl (k := 1) rfl (by decide) (by decide) rfl (fun ls hl => ?_)
  refine lv_goto (tgt := 5) hx hb dX0_farOf_43 (by decide) ?_
  refine lv_iload hx hb dX0_farOf_5 (lv_at hl 0 rfl) ?_
  refine lv_iconst (v := 3) hx hb dX0_farOf_7 (by decide) ?_
  refine lv_icmp_ge (tgt := 46) hx hb dX0_farOf_8 (by decide) (fun c_5 => absurd c_5 (by decide)) (fun c_5 => ?_)
  refine lv_iload_n hx hb dX0_farOf_11 rfl (lv_at hl 1 rfl) ?_
  refine lv_aload_n hx hb dX0_farOf_12 rfl (lv_at hl 2 rfl) ?_
  refine va_get (D := G) (ci := 0) (C := RX0) (T := TX0) (N := 32) hx hb hts in_X0 hown hK hP 0 xk_this rfl 23 (by decide) (hts _ q656) (fun _ h => h) rfl dX0_farOf_13 ?_
  refine lv_iload_n hx hb dX0_farOf_16 rfl (lv_at hl 4 rfl) ?_
  refine xq_aald (r := .ref (a (35 + ii))) hx hb hK hP 34 11 xk_places rfl rfl ii rfl (by omega) (by decide) rfl dX0_farOf_17 ?_
  refine lv_iload hx hb dX0_farOf_18 (lv_at hl 0 rfl) ?_
  refine r_iald hx hb hK hP (35 + ii) 0 (xr_places (by omega)) rfl 2 (nI_q 2) (by decide) (by decide) dX0_farOf_20 ?_
  refine r_top (y := (places (3 * ii + 2))) rfl ?_
  refine lv_aload_n hx hb dX0_farOf_21 rfl (lv_at hl 2 rfl) ?_
  refine va_get (D := G) (ci := 0) (C := RX0) (T := TX0) (N := 32) hx hb hts in_X0 hown hK hP 0 xk_this rfl 3 (by decide) (hts _ q636) (fun _ h => h) rfl dX0_farOf_22 ?_
  refine lv_iconst (v := 1) hx hb dX0_farOf_25 (by decide) ?_
  refine xq_aald (r := .ref (a (6 + 1))) hx hb hK hP 5 10 xk_bodies rfl rfl 1 (nI_q 1) (by decide) (by decide) rfl dX0_farOf_26 ?_
  refine lv_iload_n hx hb dX0_farOf_27 rfl (lv_at hl 3 rfl) ?_
  obtain ⟨b_6, eb_6, mb_6, fb_6⟩ := hB 1 pp (by decide) (by omega)
  refine xq_aald (r := .ref b_6) hx hb hK hP (6 + 1) 5 (xr_bodies (by decide)) rfl rfl pp rfl (lt_mx hM (by decide) (by omega)) (mx_1000 _) (by rw [eb_6]; rfl) dX0_farOf_28 ?_
  refine lv_iload hx hb dX0_farOf_29 (lv_at hl 0 rfl) ?_
  refine xb_along (w := 2) hx hb hml hown hts hK (x_pool hP mb_6 fb_6) (by decide) (nI_q 2) (by decide) hl.1 (Nat.le_of_ble_eq_true rfl) (Nat.le_of_ble_eq_true rfl) (Nat.le_of_ble_eq_true rfl) dX0_farOf_31 ?_
  refine lv_isub hx hb dX0_farOf_34 ?_
  refine vp_callSi (W.runS (As := [.int ((places (3 * ii + 2)) - (dir (36 * 1 + 3 * pp + 2)))]) (rest := [.int ((0 + absX ((places (3 * ii + 0)) - (dir (36 * 1 + 3 * pp + 0)))) + absX ((places (3 * ii + 1)) - (dir (36 * 1 + 3 * pp + 1))))]) ⟨hx, hb, hml, hown, hts⟩ (mx_abs l ((places (3 * ii + 2)) - (dir (36 * 1 + 3 * pp + 2)))) (va_cwS 1 hts (lw_S q287 q288 q87 q289) rfl rfl rfl cd_J0_abs.2 ⟨Nat.le_of_ble_eq_true rfl, Nat.le_of_ble_eq_true rfl⟩) ⟨pT_fb, fun U hU hW => ⟨rfl, trivial⟩⟩ rfl rfl hl.1 rfl (lv_room (Nat.le_of_ble_eq_true rfl)) dX0_farOf_35 ⟨Nat.le_of_ble_eq_true rfl, Nat.le_of_ble_eq_true rfl⟩) (fun r hr => ?_)
  subst hr
  refine lv_iadd hx hb dX0_farOf_38 ?_
  refine lv_istore_n (lv' := [(3, .int (((0 + absX ((places (3 * ii + 0)) - (dir (36 * 1 + 3 * pp + 0)))) + absX ((places (3 * ii + 1)) - (dir (36 * 1 + 3 * pp + 1)))) + absX ((places (3 * ii + 2)) - (dir (36 * 1 + 3 * pp + 2))))), (4, .int 2), (0, .ref (a 0)), (1, .int (nI pp)), (2, .int (nI ii))]) hx hb dX0_farOf_39 rfl hl (by decide) rfl (fun ls hl => ?_)
  refine lv_iinc (v := 3) (lv' := [(4, .int 3), (3, .int (((0 + absX ((places (3 * ii + 0)) - (dir (36 * 1 + 3 * pp + 0)))) + absX ((places (3 * ii + 1)) - (dir (36 * 1 + 3 * pp + 1)))) + absX ((places (3 * ii + 2)) - (dir (36 * 1 + 3 * pp + 2))))), (0, .ref (a 0)), (1, .int (nI pp)), (2, .int (nI ii))]) hx hb dX0_farOf_40 hl (k := 1) rfl (by decide) (by decide) rfl (fun ls hl => ?_)
  refine lv_goto (tgt := 5) hx hb dX0_farOf_43 (by decide) ?_
  refine lv_iload hx hb dX0_farOf_5 (lv_at hl 0 rfl) ?_
  refine lv_iconst (v := 3) hx hb dX0_farOf_7 (by decide) ?_
  refine lv_icmp_ge (tgt := 46) hx hb dX0_farOf_8 (by decide) (fun c_7 => ?_) (fun c_7 => absurd c_7 (by decide))
  refine lv_iload_n hx hb dX0_farOf_46 rfl (lv_at hl 1 rfl) ?_
  exact W.iret (v := (((0 + absX ((places (3 * ii + 0)) - (dir (36 * 1 + 3 * pp + 0)))) + absX ((places (3 * ii + 1)) - (dir (36 * 1 + 3 * pp + 1)))) + absX ((places (3 * ii + 2)) - (dir (36 * 1 + 3 * pp + 2))))) hx hb hr (fun tt ht _ => ⟨_, rfl, rfl, ht⟩) (fun _ h => by cases h) dX0_farOf_47 hlk
