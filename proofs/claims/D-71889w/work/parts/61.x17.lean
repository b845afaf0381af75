/-! the tracker: sheets -/
set_option maxHeartbeats 4000000 in
theorem mx_takenH (l : Launch) (G : va_G) (t : Nat → ClassId) (A : Nat → Prop) (a : Nat → Nat) (cs : Nat → ClassId) (K : XK) (many : (Nat → Int32)) (settings : (Nat → Int32)) (isVoted : Int32) (lotsNow : Int32) (seen : (Nat → Int32)) (keyOne : (Nat → Int32)) (keyTwo : (Nat → Int32)) (votes : (Nat → Int32)) (looked : Int32) (matched : Int32) (without : Int32) (trio : (Nat → Int32)) (takenStar : (Nat → Int32)) (takenAs : (Nat → Int32)) (takenSpot : (Nat → Int32)) (pairs : Int32) (starArms : (Nat → Int64)) (spotArms : (Nat → Int64)) (isTurn : Int32) (places : (Nat → Int32)) (byStar : (Nat → Int32)) (byFar : (Nat → Int32)) (one : (Nat → Int64)) (usedNow : (Nat → Int32)) (laidMany : (Nat → Int32)) (finding : Int32) (dir : (Nat → Int32)) (q : Nat) (fm : Nat) (n9 : Nat) (g : Nat → Int32) (j : Nat) (hfm : fm < 3) (hn9 : n9 ≤ 60) (mq : q ∈ K.L) (fq : K.f q = .inl (t (sT fm), n9, .inl g)) (hj : j < n9) : Met l yX0_taken (ws_ yX0_taken cX0_taken 3 (some .int)) (rm_ 0 0 0 0) (va_Pc [.ref q, .int (nI fm), .int (nI j)] (xPr G t A a cs K.L (Xx t a K many settings isVoted lotsNow seen keyOne keyTwo votes looked matched without trio takenStar takenAs takenSpot pairs starArms spotArms isTurn places byStar byFar one usedNow laidMany finding))) (vp_Si (fun rv => rv = g j)) 0 0 (fun _ => False) := by
  refine mkx_W (by decide) (Nat.le_of_ble_eq_true rfl) ?_
  intro p e s m below meth c ls hx hb hml hr hlk hts hown hnm hv hl
  obtain ⟨hP, hK, hD, hA, hE⟩ := hv
  have hS : va_S A s.heap s.heap [] := va_S.rf
  have hl : lv_has ls 3 [(0, .ref q), (1, .int (nI fm)), (2, .int (nI j))] := hl
  rcases (show fm = 0 ∨ fm = 1 ∨ fm = 2 by omega) with rfl | rfl | rfl
  · refine lv_iload_n hx hb dX0_taken_0 rfl (lv_at hl 1 rfl) ?_
    refine lv_lookup (off := 27) (tgt := 28) hx hb dX0_taken_1 (by decide) (by decide) (by decide) ?_
    refine lv_aload_n hx hb dX0_taken_28 rfl (lv_at hl 0 rfl) ?_
    refine va_castA hx hb hown (hts _ q201) (x_pool hP mq fq) 0 rfl (xk_nmB hK) dX0_taken_29 ?_
    refine lv_iload_n hx hb dX0_taken_32 rfl (lv_at hl 2 rfl) ?_
    refine va_bald hx hb hK (x_pool hP mq fq) 0 3 rfl rfl (nI_in (by omega) (by omega)) dX0_taken_33 ?_
    refine r_top (y := g j) (by rw [tn_nI (by omega)]) ?_
    exact W.iret (v := (g j)) hx hb hr (fun tt ht _ => ⟨_, rfl, rfl, ht⟩) (fun _ h => by cases h) dX0_taken_34 hlk
  · refine lv_iload_n hx hb dX0_taken_0 rfl (lv_at hl 1 rfl) ?_
    refine lv_lookup (off := 34) (tgt := 35) hx hb dX0_taken_1 (by decide) (by decide) (by decide) ?_
    refine lv_aload_n hx hb dX0_taken_35 rfl (lv_at hl 0 rfl) ?_
    refine va_castA hx hb hown (hts _ q202) (x_pool hP mq fq) 0 rfl (xk_nmS hK) dX0_taken_36 ?_
    refine lv_iload_n hx hb dX0_taken_39 rfl (lv_at hl 2 rfl) ?_
    refine va_sald hx hb hK (x_pool hP mq fq) 0 4 rfl rfl (nI_in (by omega) (by omega)) dX0_taken_40 ?_
    refine r_top (y := g j) (by rw [tn_nI (by omega)]) ?_
    exact W.iret (v := (g j)) hx hb hr (fun tt ht _ => ⟨_, rfl, rfl, ht⟩) (fun _ h => by cases h) dX0_taken_41 hlk
  · refine lv_iload_n hx hb dX0_taken_0 rfl (lv_at hl 1 rfl) ?_
    refine lv_lookup (off := 41) (tgt := 42) hx hb dX0_taken_1 (by decide) (by decide) (by decide) ?_
    refine lv_aload_n hx hb dX0_taken_42 rfl (lv_at hl 0 rfl) ?_
    refine va_castA hx hb hown (hts _ q203) (x_pool hP mq fq) 0 rfl (xk_nmI hK) dX0_taken_43 ?_
    refine lv_iload_n hx hb dX0_taken_46 rfl (lv_at hl 2 rfl) ?_
    refine r_iald hx hb hK (x_pool hP mq fq) 0 0 rfl rfl (f := g) j rfl (by omega) (by omega) dX0_taken_47 ?_
    exact W.iret (v := (g j)) hx hb hr (fun tt ht _ => ⟨_, rfl, rfl, ht⟩) (fun _ h => by cases h) dX0_taken_48 hlk

set_option maxHeartbeats 4000000 in
theorem mx_size (l : Launch) (G : va_G) (t : Nat → ClassId) (A : Nat → Prop) (a : Nat → Nat) (cs : Nat → ClassId) (K : XK) (many : (Nat → Int32)) (settings : (Nat → Int32)) (isVoted : Int32) (lotsNow : Int32) (seen : (Nat → Int32)) (keyOne : (Nat → Int32)) (keyTwo : (Nat → Int32)) (votes : (Nat → Int32)) (looked : Int32) (matched : Int32) (without : Int32) (trio : (Nat → Int32)) (takenStar : (Nat → Int32)) (takenAs : (Nat → Int32)) (takenSpot : (Nat → Int32)) (pairs : Int32) (starArms : (Nat → Int64)) (spotArms : (Nat → Int64)) (isTurn : Int32) (places : (Nat → Int32)) (byStar : (Nat → Int32)) (byFar : (Nat → Int32)) (one : (Nat → Int64)) (usedNow : (Nat → Int32)) (laidMany : (Nat → Int32)) (finding : Int32) (dir : (Nat → Int32)) (s9 : Nat) (q : Nat) (fm : Nat) (n9 : Nat) (g : Nat → Int32) (hs9 : s9 < 4) (hfo : K.fo s9 = nI fm) (hro : K.ro s9 = some q) (hfm : fm < 3) (hn9 : n9 ≤ 60) (mq : q ∈ K.L) (fq : K.f q = .inl (t (sT fm), n9, .inl g)) : Met l yX2_size (ws_ yX2_size cX2_size 1 (some .int)) (rm_ 0 0 0 0) (va_Pc [.ref (a (54 + s9))] (xPr G t A a cs K.L (Xx t a K many settings isVoted lotsNow seen keyOne keyTwo votes looked matched without trio takenStar takenAs takenSpot pairs starArms spotArms isTurn places byStar byFar one usedNow laidMany finding))) (vp_Si (fun rv => rv = nI n9)) 0 0 (fun _ => False) := by
  refine mkx_W (by decide) (Nat.le_of_ble_eq_true rfl) ?_
  intro p e s m below meth c ls hx hb hml hr hlk hts hown hnm hv hl
  obtain ⟨hP, hK, hD, hA, hE⟩ := hv
  have hS : va_S A s.heap s.heap [] := va_S.rf
  have hl : lv_has ls 1 [(0, .ref (a (54 + s9)))] := hl
  rcases (show fm = 0 ∨ fm = 1 ∨ fm = 2 by omega) with rfl | rfl | rfl
  · refine lv_aload_n hx hb dX2_size_0 rfl (lv_at hl 0 rfl) ?_
    refine va_get (D := G) (ci := 2) (C := RX2) (T := TX2) (N := 2) hx hb hts in_X2 hown hK hP (54 + s9) (xr_sheet hs9) rfl 0 (by decide) (hts _ q623) (fun _ h => h) rfl dX2_size_1 ?_
    refine r_top (y := nI 0) hfo ?_
    refine lv_if_ne (tgt := 18) hx hb dX2_size_4 (by decide) (fun c_1 => absurd c_1 (by decide)) (fun c_1 => ?_)
    refine lv_aload_n hx hb dX2_size_7 rfl (lv_at hl 0 rfl) ?_
    refine va_get (D := G) (ci := 2) (C := RX2) (T := TX2) (N := 2) hx hb hts in_X2 hown hK hP (54 + s9) (xr_sheet hs9) rfl 1 (by decide) (hts _ q625) (fun _ h => h) rfl dX2_size_8 ?_
    refine r_stk (st' := [.ref q]) (by rw [hro]; rfl) ?_
    refine va_castA hx hb hown (hts _ q191) (x_pool hP mq fq) 0 rfl (xk_nmB hK) dX2_size_11 ?_
    refine va_alen hx hb hK (x_pool hP mq fq) 0 (sT 0) rfl rfl rfl dX2_size_14 ?_
    refine r_top (y := nI n9) rfl ?_
    refine lv_goto (tgt := 45) hx hb dX2_size_15 (by decide) ?_
    exact W.iret (v := nI n9) hx hb hr (fun tt ht _ => ⟨_, rfl, rfl, ht⟩) (fun _ h => by cases h) dX2_size_45 hlk
  · refine lv_aload_n hx hb dX2_size_0 rfl (lv_at hl 0 rfl) ?_
    refine va_get (D := G) (ci := 2) (C := RX2) (T := TX2) (N := 2) hx hb hts in_X2 hown hK hP (54 + s9) (xr_sheet hs9) rfl 0 (by decide) (hts _ q623) (fun _ h => h) rfl dX2_size_1 ?_
    refine r_top (y := nI 1) hfo ?_
    refine lv_if_ne (tgt := 18) hx hb dX2_size_4 (by decide) (fun c_2 => ?_) (fun c_2 => absurd c_2 (by decide))
    refine lv_aload_n hx hb dX2_size_18 rfl (lv_at hl 0 rfl) ?_
    refine va_get (D := G) (ci := 2) (C := RX2) (T := TX2) (N := 2) hx hb hts in_X2 hown hK hP (54 + s9) (xr_sheet hs9) rfl 0 (by decide) (hts _ q623) (fun _ h => h) rfl dX2_size_19 ?_
    refine r_top (y := nI 1) hfo ?_
    refine lv_iconst (v := 1) hx hb dX2_size_22 (by decide) ?_
    refine lv_icmp_ne (tgt := 37) hx hb dX2_size_23 (by decide) (fun c_3 => absurd c_3 (by decide)) (fun c_3 => ?_)
    refine lv_aload_n hx hb dX2_size_26 rfl (lv_at hl 0 rfl) ?_
    refine va_get (D := G) (ci := 2) (C := RX2) (T := TX2) (N := 2) hx hb hts in_X2 hown hK hP (54 + s9) (xr_sheet hs9) rfl 1 (by decide) (hts _ q625) (fun _ h => h) rfl dX2_size_27 ?_
    refine r_stk (st' := [.ref q]) (by rw [hro]; rfl) ?_
    refine va_castA hx hb hown (hts _ q192) (x_pool hP mq fq) 0 rfl (xk_nmS hK) dX2_size_30 ?_
    refine va_alen hx hb hK (x_pool hP mq fq) 0 (sT 1) rfl rfl rfl dX2_size_33 ?_
    refine r_top (y := nI n9) rfl ?_
    refine lv_goto (tgt := 45) hx hb dX2_size_34 (by decide) ?_
    exact W.iret (v := nI n9) hx hb hr (fun tt ht _ => ⟨_, rfl, rfl, ht⟩) (fun _ h => by cases h) dX2_size_45 hlk
  · refine lv_aload_n hx hb dX2_size_0 rfl (lv_at hl 0 rfl) ?_
    refine va_get (D := G) (ci := 2) (C := RX2) (T := TX2) (N := 2) hx hb hts in_X2 hown hK hP (54 + s9) (xr_sheet hs9) rfl 0 (by decide) (hts _ q623) (fun _ h => h) rfl dX2_size_1 ?_
    refine r_top (y := nI 2) hfo ?_
    refine lv_if_ne (tgt := 18) hx hb dX2_size_4 (by decide) (fun c_4 => ?_) (fun c_4 => absurd c_4 (by decide))
    refine lv_aload_n hx hb dX2_size_18 rfl (lv_at hl 0 rfl) ?_
    refine va_get (D := G) (ci := 2) (C := RX2) (T := TX2) (N := 2) hx hb hts in_X2 hown hK hP (54 + s9) (xr_sheet hs9) rfl 0 (by decide) (hts _ q623) (fun _ h => h) rfl dX2_size_19 ?_
    refine r_top (y := nI 2) hfo ?_
    refine lv_iconst (v := 1) hx hb dX2_size_22 (by decide) ?_
    refine lv_icmp_ne (tgt := 37) hx hb dX2_size_23 (by decide) (fun c_5 => ?_) (fun c_5 => absurd c_5 (by decide))
    refine lv_aload_n hx hb dX2_size_37 rfl (lv_at hl 0 rfl) ?_
    refine va_get (D := G) (ci := 2) (C := RX2) (T := TX2) (N := 2) hx hb hts in_X2 hown hK hP (54 + s9) (xr_sheet hs9) rfl 1 (by decide) (hts _ q625) (fun _ h => h) rfl dX2_size_38 ?_
    refine r_stk (st' := [.ref q]) (by rw [hro]; rfl) ?_
    refine va_castA hx hb hown (hts _ q193) (x_pool hP mq fq) 0 rfl (xk_nmI hK) dX2_size_41 ?_
    refine va_alen hx hb hK (x_pool hP mq fq) 0 (sT 2) rfl rfl rfl dX2_size_44 ?_
    refine r_top (y := nI n9) rfl ?_
    exact W.iret (v := nI n9) hx hb hr (fun tt ht _ => ⟨_, rfl, rfl, ht⟩) (fun _ h => by cases h) dX2_size_45 hlk

set_option maxHeartbeats 4000000 in
theorem mx_item (l : Launch) (G : va_G) (t : Nat → ClassId) (A : Nat → Prop) (a : Nat → Nat) (cs : Nat → ClassId) (K : XK) (many : (Nat → Int32)) (settings : (Nat → Int32)) (isVoted : Int32) (lotsNow : Int32) (seen : (Nat → Int32)) (keyOne : (Nat → Int32)) (keyTwo : (Nat → Int32)) (votes : (Nat → Int32)) (looked : Int32) (matched : Int32) (without : Int32) (trio : (Nat → Int32)) (takenStar : (Nat → Int32)) (takenAs : (Nat → Int32)) (takenSpot : (Nat → Int32)) (pairs : Int32) (starArms : (Nat → Int64)) (spotArms : (Nat → Int64)) (isTurn : Int32) (places : (Nat → Int32)) (byStar : (Nat → Int32)) (byFar : (Nat → Int32)) (one : (Nat → Int64)) (usedNow : (Nat → Int32)) (laidMany : (Nat → Int32)) (finding : Int32) (dir : (Nat → Int32)) (s9 : Nat) (q : Nat) (fm : Nat) (n9 : Nat) (g : Nat → Int32) (j : Nat) (hs9 : s9 < 4) (hfo : K.fo s9 = nI fm) (hro : K.ro s9 = some q) (hfm : fm < 3) (hn9 : n9 ≤ 60) (mq : q ∈ K.L) (fq : K.f q = .inl (t (sT fm), n9, .inl g)) (hj : j < n9) : Met l yX2_item (ws_ yX2_item cX2_item 2 (some .int)) (rm_ 0 1 0 0) (va_Pc [.ref (a (54 + s9)), .int (nI j)] (xPr G t A a cs K.L (Xx t a K many settings isVoted lotsNow seen keyOne keyTwo votes looked matched without trio takenStar takenAs takenSpot pairs starArms spotArms isTurn places byStar byFar one usedNow laidMany finding))) (vp_Si (fun rv => rv = g j)) 0 0 (fun _ => False) := by
  refine mkx_W (by decide) (Nat.le_of_ble_eq_true rfl) ?_
  intro p e s m below meth c ls hx hb hml hr hlk hts hown hnm hv hl
  obtain ⟨hP, hK, hD, hA, hE⟩ := hv
  have hS : va_S A s.heap s.heap [] := va_S.rf
  have hl : lv_has ls 2 [(0, .ref (a (54 + s9))), (1, .int (nI j))] := hl
  refine lv_aload_n hx hb dX2_item_0 rfl (lv_at hl 0 rfl) ?_
  refine va_get (D := G) (ci := 2) (C := RX2) (T := TX2) (N := 2) hx hb hts in_X2 hown hK hP (54 + s9) (xr_sheet hs9) rfl 1 (by decide) (hts _ q625) (fun _ h => h) rfl dX2_item_1 ?_
  refine r_stk (st' := [.ref q]) (by rw [hro]; rfl) ?_
  refine lv_aload_n hx hb dX2_item_4 rfl (lv_at hl 0 rfl) ?_
  refine va_get (D := G) (ci := 2) (C := RX2) (T := TX2) (N := 2) hx hb hts in_X2 hown hK hP (54 + s9) (xr_sheet hs9) rfl 0 (by decide) (hts _ q623) (fun _ h => h) rfl dX2_item_5 ?_
  refine r_top (y := nI fm) hfo ?_
  refine lv_iload_n hx hb dX2_item_8 rfl (lv_at hl 1 rfl) ?_
  refine vp_callSi (xl_cr (va_runSN (As := [.ref q, .int (nI fm), .int (nI j)]) (rest := []) ⟨hx, hb, hml, hown, hts⟩ (mx_takenH l G t A a cs K many settings isVoted lotsNow seen keyOne keyTwo votes looked matched without trio takenStar takenAs takenSpot pairs starArms spotArms isTurn places byStar byFar one usedNow laidMany finding dir q fm n9 g j (by omega) (by omega) mq fq (by omega)) ⟨va_cnB 3 hts (lw_meth q200) rfl rfl rfl (hE.nw _ rfl (Or.inl q198)) (hts _ q80) cd_X0_taken.2 ⟨Nat.le_of_ble_eq_true rfl, Nat.le_of_ble_eq_true rfl⟩, hts _ q199, trivial⟩ ⟨xPr_fb, fun U hU hW => ⟨rfl, xPr_of hP hK hD hS hA hE hU hW⟩⟩ rfl rfl hl.1 rfl (lv_room (Nat.le_of_ble_eq_true rfl)) dX2_item_9 ⟨Nat.le_of_ble_eq_true rfl, Nat.le_of_ble_eq_true rfl⟩)) (fun r hr => ?_)
  subst hr
  exact W.iret (v := g j) hx hb hr (fun tt ht _ => ⟨_, rfl, rfl, ht⟩) (fun _ h => by cases h) dX2_item_12 hlk

set_option maxHeartbeats 4000000 in
theorem mx_refuses (l : Launch) (G : va_G) (t : Nat → ClassId) (A : Nat → Prop) (a : Nat → Nat) (cs : Nat → ClassId) (K : XK) (many : (Nat → Int32)) (settings : (Nat → Int32)) (isVoted : Int32) (lotsNow : Int32) (seen : (Nat → Int32)) (keyOne : (Nat → Int32)) (keyTwo : (Nat → Int32)) (votes : (Nat → Int32)) (looked : Int32) (matched : Int32) (without : Int32) (trio : (Nat → Int32)) (takenStar : (Nat → Int32)) (takenAs : (Nat → Int32)) (takenSpot : (Nat → Int32)) (pairs : Int32) (starArms : (Nat → Int64)) (spotArms : (Nat → Int64)) (isTurn : Int32) (places : (Nat → Int32)) (byStar : (Nat → Int32)) (byFar : (Nat → Int32)) (one : (Nat → Int64)) (usedNow : (Nat → Int32)) (laidMany : (Nat → Int32)) (finding : Int32) (dir : (Nat → Int32)) (k : Int32) : Met l yX0_refuses (ws_ yX0_refuses cX0_refuses 2 (some .int)) (rm_ 0 0 0 0) (va_Pc [.ref (a 0), .int k] (xPr G t A a cs K.L (Xx t a K many settings isVoted lotsNow seen keyOne keyTwo votes looked matched without trio takenStar takenAs takenSpot pairs starArms spotArms isTurn places byStar byFar one usedNow laidMany finding))) (va_Qi (fun rv (uv : Int32) => rv = (-10) - k ∧ uv = k) (mB G (fun (uv : Int32) => Xx t a K many settings isVoted lotsNow seen keyOne keyTwo votes looked matched without trio takenStar takenAs takenSpot pairs starArms spotArms isTurn places byStar byFar one usedNow laidMany uv)) A) 0 0 A := by
  refine mkx_W (by decide) (Nat.le_of_ble_eq_true rfl) ?_
  intro p e s m below meth c ls hx hb hml hr hlk hts hown hnm hv hl
  obtain ⟨hP, hK, hD, hA, hE⟩ := hv
  have hS : va_S A s.heap s.heap [] := va_S.rf
  have hl : lv_has ls 2 [(0, .ref (a 0)), (1, .int k)] := hl
  refine lv_aload_n hx hb dX0_refuses_0 rfl (lv_at hl 0 rfl) ?_
  refine lv_iload_n hx hb dX0_refuses_1 rfl (lv_at hl 1 rfl) ?_
  refine va_put (D := G) (ci := 0) (v := .int k) (ty := .int) (C := RX0) (T := TX0) (N := 32) hx hb hts in_X0 tyX0 tyX0_ok nmX0 hown hK hP (xD hD) hS 0 xk_this rfl 31 (by decide) (hts _ q664) (fun _ h => h) rfl (by decide +kernel) rfl rfl (Nat.le_of_ble_eq_true rfl) dX0_refuses_2 (fun H locs hP _ hS => ?_)
  have hP : va_P G vwCl (Xx t a K many settings isVoted lotsNow seen keyOne keyTwo votes looked matched without trio takenStar takenAs takenSpot pairs starArms spotArms isTurn places byStar byFar one usedNow laidMany k) H := by rw [xs_finding] at hP; exact hP
  refine lv_bipush (v := (-10)) hx hb dX0_refuses_5 (by decide) ?_
  refine lv_iload_n hx hb dX0_refuses_7 rfl (lv_at hl 1 rfl) ?_
  refine lv_isub hx hb dX0_refuses_8 ?_
  exact W.iret (v := ((-10) - k)) hx hb hr (fun tt ht _ => ⟨⟨_, k, rfl, ⟨rfl, rfl⟩, (show va_P G vwCl ((fun (uv : Int32) => Xx t a K many settings isVoted lotsNow seen keyOne keyTwo votes looked matched without trio takenStar takenAs takenSpot pairs starArms spotArms isTurn places byStar byFar one usedNow laidMany uv) k) tt.heap from by rw [ht]; exact hP)⟩, hS.F ht⟩) hS.2.2 dX0_refuses_9 hlk
