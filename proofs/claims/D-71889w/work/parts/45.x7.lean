/-! the tracker: the turn, confirming, solving -/
set_option maxHeartbeats 4000000 in
theorem lx_places {p : Program} {l : Launch} {e : Env} {s : State} {m : MethodId} {args : Array Value} {below : List Frame} {meth : Method} {c : Code} {Q : State → Prop} {H0 : Heap} (G : va_G) (t : Nat → ClassId) (A : Nat → Prop) (a : Nat → Nat) (cs : Nat → ClassId) (K : XK) (many : (Nat → Int32)) (settings : (Nat → Int32)) (isVoted : Int32) (lotsNow : Int32) (seen : (Nat → Int32)) (keyOne : (Nat → Int32)) (keyTwo : (Nat → Int32)) (votes : (Nat → Int32)) (looked : Int32) (matched : Int32) (without : Int32) (trio : (Nat → Int32)) (takenStar : (Nat → Int32)) (takenAs : (Nat → Int32)) (takenSpot : (Nat → Int32)) (pairs : Int32) (starArms : (Nat → Int64)) (spotArms : (Nat → Int64)) (isTurn : Int32) (places : (Nat → Int32)) (byStar : (Nat → Int32)) (byFar : (Nat → Int32)) (usedNow : (Nat → Int32)) (laidMany : (Nat → Int32)) (finding : Int32) (dir : (Nat → Int32)) (hM : Mok many) (hB : BodOk K dir many) (h0 : nK many 0 ≤ 12) (hit : ¬ isTurn = 0) (hnz : ¬ (2 : Int64) * (sq starArms 0 * sq starArms 1) = 0) (hx : p.tables.exec = Jvm.exec) (hb : c.code = cX0_findsTurn) (hml : c.maxLocals = 4) (hown : s.vm.findClass RX0 = some m.cls) (hts : ∀ w ∈ lw_all, w.before args s = true) (hK : va_K G vwCl (Tys t) s) (hD : XD A a K.L) (hA : ∀ q, H0.size ≤ q → A q) (hE : xE A a cs s H0) : ∀ (n i : Nat), 0 ≤ i → i + n = (nK many 0) → ∀ (one : (Nat → Int64)) (H : Heap) (locs : List Loc) (ls : Array Slot), va_P G vwCl (Xx t a K many settings isVoted lotsNow seen keyOne keyTwo votes looked matched without trio takenStar takenAs takenSpot pairs starArms spotArms isTurn (plcsX dir starArms spotArms i places) byStar byFar one usedNow laidMany finding) H → va_S A H0 H locs → lv_has ls 4 [(0, .ref (a 0)), (1, .int (nI i))] → (∀ (one : (Nat → Int64)) (H : Heap) (locs : List Loc) (ls : Array Slot), va_P G vwCl (Xx t a K many settings isVoted lotsNow seen keyOne keyTwo votes looked matched without trio takenStar takenAs takenSpot pairs starArms spotArms isTurn (plcsX dir starArms spotArms (nK many 0) places) byStar byFar one usedNow laidMany finding) H → va_S A H0 H locs → lv_has ls 4 [(0, .ref (a 0)), (1, .int (nI (nK many 0)))] → W p l e (rm_ 0 4 0 0) s m args below meth c H locs 0 0 Q (F0 m 132 ls [])) → W p l e (rm_ 0 4 0 0) s m args below meth c H locs 0 0 Q (F0 m 104 ls []) := by
  intro n
  induction n with
  | zero =>
    intro i hlo hi one H locs ls hP hS hl hex
    have hie : i = (nK many 0) := by omega
    subst hie
    refine lv_iload_n hx hb dX0_findsTurn_104 rfl (lv_at hl 1 rfl) ?_
    refine lv_aload_n hx hb dX0_findsTurn_105 rfl (lv_at hl 0 rfl) ?_
    refine va_get (D := G) (ci := 0) (C := RX0) (T := TX0) (N := 32) hx hb hts in_X0 hown hK hP 0 xk_this rfl 4 (by decide) (hts _ q637) (fun _ h => h) rfl dX0_findsTurn_106 ?_
    refine lv_iconst (v := 0) hx hb dX0_findsTurn_109 (by decide) ?_
    refine r_iald hx hb hK hP 8 0 xk_many rfl (f := many) 0 (nI_q 0) (by decide) (by decide) dX0_findsTurn_110 ?_
    refine rn_ge (tgt := 132) hx hb dX0_findsTurn_111 (by decide) rfl (hM 0 (by omega)).1 (by omega) (by omega) (fun c_1 => ?_) (fun c_1 => absurd c_1 (by omega))
    exact hex _ _ _ _ hP hS (lv_sub hl [0, 1] rfl)
  | succ n ih =>
    intro i hlo hi one H locs ls hP hS hl hex
    have hlt : i < (nK many 0) := by omega
    refine lv_iload_n hx hb dX0_findsTurn_104 rfl (lv_at hl 1 rfl) ?_
    refine lv_aload_n hx hb dX0_findsTurn_105 rfl (lv_at hl 0 rfl) ?_
    refine va_get (D := G) (ci := 0) (C := RX0) (T := TX0) (N := 32) hx hb hts in_X0 hown hK hP 0 xk_this rfl 4 (by decide) (hts _ q637) (fun _ h => h) rfl dX0_findsTurn_106 ?_
    refine lv_iconst (v := 0) hx hb dX0_findsTurn_109 (by decide) ?_
    refine r_iald hx hb hK hP 8 0 xk_many rfl (f := many) 0 (nI_q 0) (by decide) (by decide) dX0_findsTurn_110 ?_
    refine rn_ge (tgt := 132) hx hb dX0_findsTurn_111 (by decide) rfl (hM 0 (by omega)).1 (by omega) (by omega) (fun c_1 => absurd c_1 (by omega)) (fun c_1 => ?_)
    refine lv_aload_n hx hb dX0_findsTurn_114 rfl (lv_at hl 0 rfl) ?_
    refine va_get (D := G) (ci := 0) (C := RX0) (T := TX0) (N := 32) hx hb hts in_X0 hown hK hP 0 xk_this rfl 22 (by decide) (hts _ q655) (fun _ h => h) rfl dX0_findsTurn_115 ?_
    refine lv_if_eq (tgt := 132) hx hb dX0_findsTurn_118 (by decide) (fun c_2 => (hit c_2).elim) (fun c_2 => ?_)
    refine lv_aload_n hx hb dX0_findsTurn_121 rfl (lv_at hl 0 rfl) ?_
    refine lv_iload_n hx hb dX0_findsTurn_122 rfl (lv_at hl 1 rfl) ?_
    refine va_callv (va_runV (As := [.int (nI i)]) (rest := []) ⟨hx, hb, hml, hown, hts⟩ (mx_findsPlace l G t A a cs K many settings isVoted lotsNow seen keyOne keyTwo votes looked matched without trio takenStar takenAs takenSpot pairs starArms spotArms isTurn (plcsX dir starArms spotArms i places) byStar byFar one usedNow laidMany finding dir i hM hB (by omega) hnz) (cwV 1 hts (lw_V q339 q341 qs21 q80 q342) rfl rfl rfl cd_X0_findsPlace ⟨Nat.le_of_ble_eq_true rfl, Nat.le_of_ble_eq_true rfl⟩) ⟨xPr_fb, x_recv hP hK, fun U hU hW => ⟨rfl, xPr_of hP hK hD hS hA hE hU hW⟩⟩ rfl rfl hl.1 rfl (lv_room (Nat.le_of_ble_eq_true rfl)) dX0_findsTurn_123 ⟨Nat.le_of_ble_eq_true rfl, Nat.le_of_ble_eq_true rfl⟩) hS (fun _ _ h => h) (fun _ h => h) (fun u tt H locs ht _ hq hP _ hkp hS => ?_)
    obtain ⟨u_3, one_u_3⟩ := u
    obtain rfl := hq
    have hP : va_P G vwCl (Xx t a K many settings isVoted lotsNow seen keyOne keyTwo votes looked matched without trio takenStar takenAs takenSpot pairs starArms spotArms isTurn (plcX dir starArms spotArms i (plcsX dir starArms spotArms i places)) byStar byFar one_u_3 usedNow laidMany finding) H := by rw [← ht]; exact hP
    refine lv_iinc (v := nI (i + 1)) (lv' := [(1, .int (nI (i + 1))), (0, .ref (a 0))]) hx hb dX0_findsTurn_126 hl (k := 1) rfl (iinc_nI rfl) (by decide) rfl (fun ls hl => ?_)
    refine lv_goto (tgt := 104) hx hb dX0_findsTurn_129 (by decide) ?_
    have hP : va_P G vwCl (Xx t a K many settings isVoted lotsNow seen keyOne keyTwo votes looked matched without trio takenStar takenAs takenSpot pairs starArms spotArms isTurn (plcsX dir starArms spotArms (i + 1) places) byStar byFar one_u_3 usedNow laidMany finding) H := by exact hP
    exact ih (i + 1) (by omega) (by omega) _ _ _ _ hP hS (lv_sub hl [1, 0] rfl) hex

set_option maxHeartbeats 4000000 in
theorem mx_findsTurn (l : Launch) (G : va_G) (t : Nat → ClassId) (A : Nat → Prop) (a : Nat → Nat) (cs : Nat → ClassId) (K : XK) (many : (Nat → Int32)) (settings : (Nat → Int32)) (isVoted : Int32) (lotsNow : Int32) (seen : (Nat → Int32)) (keyOne : (Nat → Int32)) (keyTwo : (Nat → Int32)) (votes : (Nat → Int32)) (looked : Int32) (matched : Int32) (without : Int32) (trio : (Nat → Int32)) (takenStar : (Nat → Int32)) (takenAs : (Nat → Int32)) (takenSpot : (Nat → Int32)) (pairs : Int32) (starArms : (Nat → Int64)) (spotArms : (Nat → Int64)) (isTurn : Int32) (places : (Nat → Int32)) (byStar : (Nat → Int32)) (byFar : (Nat → Int32)) (one : (Nat → Int64)) (usedNow : (Nat → Int32)) (laidMany : (Nat → Int32)) (finding : Int32) (dir : (Nat → Int32)) (p0 : Nat) (p1 : Nat) (i0 : Nat) (i1 : Nat) (hM : Mok many) (hB : BodOk K dir many) (hT : ¬ pairs ≤ 1 → p0 < nK many 1 ∧ p1 < nK many 1 ∧ i0 < nK many 0 ∧ i1 < nK many 0 ∧ takenSpot 0 = nI p0 ∧ takenSpot 1 = nI p1 ∧ takenStar p0 = nI i0 ∧ takenStar p1 = nI i1) (hX : ArmX dir many) : Met l yX0_findsTurn (ws_ yX0_findsTurn cX0_findsTurn 4 (none)) (rm_ 0 4 0 0) (va_Pc [.ref (a 0)] (xPr G t A a cs K.L (Xx t a K many settings isVoted lotsNow seen keyOne keyTwo votes looked matched without trio takenStar takenAs takenSpot pairs starArms spotArms isTurn places byStar byFar one usedNow laidMany finding))) (va_Qv (fun (uv : (TNX) × (Nat → Int64)) => uv.1 = trnX dir (nK many 0) pairs p0 p1 i0 i1 starArms spotArms places) (mB G (fun (uv : (TNX) × (Nat → Int64)) => Xx t a K many settings isVoted lotsNow seen keyOne keyTwo votes looked matched without trio takenStar takenAs takenSpot pairs uv.1.2.1 uv.1.2.2.1 uv.1.1 uv.1.2.2.2 byStar byFar uv.2 usedNow laidMany finding)) A) 0 0 A := by
  refine mkx_W (by decide) (Nat.le_of_ble_eq_true rfl) ?_
  intro p e s m below meth c ls hx hb hml hr hlk hts hown hnm hv hl
  obtain ⟨hP, hK, hD, hA, hE⟩ := hv
  have hS : va_S A s.heap s.heap [] := va_S.rf
  have hl : lv_has ls 4 [(0, .ref (a 0))] := hl
  have h0 : nK many 0 ≤ 12 := (hM 0 (by omega)).2
  have h8 : nK many 1 ≤ 8 := (hM 1 (by omega)).2
  refine lv_aload_n hx hb dX0_findsTurn_0 rfl (lv_at hl 0 rfl) ?_
  refine lv_iconst (v := 0) hx hb dX0_findsTurn_1 (by decide) ?_
  refine va_put (D := G) (ci := 0) (v := .int 0) (ty := .boolean) (C := RX0) (T := TX0) (N := 32) hx hb hts in_X0 tyX0 tyX0_ok nmX0 hown hK hP (xD hD) hS 0 xk_this rfl 22 (by decide) (hts _ q655) (fun _ h => h) rfl (by decide +kernel) rfl rfl (Nat.le_of_ble_eq_true rfl) dX0_findsTurn_2 (fun H locs hP _ hS => ?_)
  have hP : va_P G vwCl (Xx t a K many settings isVoted lotsNow seen keyOne keyTwo votes looked matched without trio takenStar takenAs takenSpot pairs starArms spotArms 0 places byStar byFar one usedNow laidMany finding) H := by rw [xs_isTurn] at hP; exact hP
  refine lv_aload_n hx hb dX0_findsTurn_5 rfl (lv_at hl 0 rfl) ?_
  refine va_get (D := G) (ci := 0) (C := RX0) (T := TX0) (N := 32) hx hb hts in_X0 hown hK hP 0 xk_this rfl 19 (by decide) (hts _ q652) (fun _ h => h) rfl dX0_findsTurn_6 ?_
  refine lv_iconst (v := 1) hx hb dX0_findsTurn_9 (by decide) ?_
  refine lv_icmp_le (tgt := 102) hx hb dX0_findsTurn_10 (by decide) (fun c_1 => ?_) (fun c_1 => ?_)
  · refine lv_iconst (v := 0) hx hb dX0_findsTurn_102 (by decide) ?_
    refine lv_istore_n (lv' := [(1, .int 0), (0, .ref (a 0))]) hx hb dX0_findsTurn_103 rfl hl (by decide) rfl (fun ls hl => ?_)
    refine lv_iload_n hx hb dX0_findsTurn_104 rfl (lv_at hl 0 rfl) ?_
    refine lv_aload_n hx hb dX0_findsTurn_105 rfl (lv_at hl 1 rfl) ?_
    refine va_get (D := G) (ci := 0) (C := RX0) (T := TX0) (N := 32) hx hb hts in_X0 hown hK hP 0 xk_this rfl 4 (by decide) (hts _ q637) (fun _ h => h) rfl dX0_findsTurn_106 ?_
    refine lv_iconst (v := 0) hx hb dX0_findsTurn_109 (by decide) ?_
    refine r_iald hx hb hK hP 8 0 xk_many rfl (f := many) 0 (nI_q 0) (by decide) (by decide) dX0_findsTurn_110 ?_
    refine rn_ge (tgt := 132) hx hb dX0_findsTurn_111 (by decide) (nI_q 0) (hM 0 (by omega)).1 (by omega) (by omega) (fun c_2 => ?_) (fun c_2 => ?_)
    · have hP : va_P G vwCl (Xx t a K many settings isVoted lotsNow seen keyOne keyTwo votes looked matched without trio takenStar takenAs takenSpot pairs ((trnX dir (nK many 0) pairs p0 p1 i0 i1 starArms spotArms places).2.1) ((trnX dir (nK many 0) pairs p0 p1 i0 i1 starArms spotArms places).2.2.1) ((trnX dir (nK many 0) pairs p0 p1 i0 i1 starArms spotArms places).1) ((trnX dir (nK many 0) pairs p0 p1 i0 i1 starArms spotArms places).2.2.2) byStar byFar one usedNow laidMany finding) H := by (unfold trnX; (first | rw [if_pos c_1] | rw [if_neg c_1] | (unfold trn2; first | rw [if_pos c_1] | rw [if_neg c_1])); exact hP)
      exact W.vret hx hb hr (fun tt ht _ => ⟨⟨((trnX dir (nK many 0) pairs p0 p1 i0 i1 starArms spotArms places), one), rfl, rfl, (show va_P G vwCl ((fun (uv : (TNX) × (Nat → Int64)) => Xx t a K many settings isVoted lotsNow seen keyOne keyTwo votes looked matched without trio takenStar takenAs takenSpot pairs uv.1.2.1 uv.1.2.2.1 uv.1.1 uv.1.2.2.2 byStar byFar uv.2 usedNow laidMany finding) ((trnX dir (nK many 0) pairs p0 p1 i0 i1 starArms spotArms places), one)) tt.heap from by rw [ht]; exact hP)⟩, hS.F ht⟩) hS.2.2 dX0_findsTurn_132 hlk
    · refine lv_aload_n hx hb dX0_findsTurn_114 rfl (lv_at hl 1 rfl) ?_
      refine va_get (D := G) (ci := 0) (C := RX0) (T := TX0) (N := 32) hx hb hts in_X0 hown hK hP 0 xk_this rfl 22 (by decide) (hts _ q655) (fun _ h => h) rfl dX0_findsTurn_115 ?_
      refine lv_if_eq (tgt := 132) hx hb dX0_findsTurn_118 (by decide) (fun c_3 => ?_) (fun c_3 => absurd c_3 (by decide))
      have hP : va_P G vwCl (Xx t a K many settings isVoted lotsNow seen keyOne keyTwo votes looked matched without trio takenStar takenAs takenSpot pairs ((trnX dir (nK many 0) pairs p0 p1 i0 i1 starArms spotArms places).2.1) ((trnX dir (nK many 0) pairs p0 p1 i0 i1 starArms spotArms places).2.2.1) ((trnX dir (nK many 0) pairs p0 p1 i0 i1 starArms spotArms places).1) ((trnX dir (nK many 0) pairs p0 p1 i0 i1 starArms spotArms places).2.2.2) byStar byFar one usedNow laidMany finding) H := by (unfold trnX; (first | rw [if_pos c_1] | rw [if_neg c_1] | (unfold trn2; first | rw [if_pos c_1] | rw [if_neg c_1])); exact hP)
      exact W.vret hx hb hr (fun tt ht _ => ⟨⟨((trnX dir (nK many 0) pairs p0 p1 i0 i1 starArms spotArms places), one), rfl, rfl, (show va_P G vwCl ((fun (uv : (TNX) × (Nat → Int64)) => Xx t a K many settings isVoted lotsNow seen keyOne keyTwo votes looked matched without trio takenStar takenAs takenSpot pairs uv.1.2.1 uv.1.2.2.1 uv.1.1 uv.1.2.2.2 byStar byFar uv.2 usedNow laidMany finding) ((trnX dir (nK many 0) pairs p0 p1 i0 i1 starArms spotArms places), one)) tt.heap from by rw [ht]; exact hP)⟩, hS.F ht⟩) hS.2.2 dX0_findsTurn_132 hlk
  · obtain ⟨l0, l1, j0, j1, ep0, ep1, ei0, ei1⟩ := hT c_1
    refine lv_aload_n hx hb dX0_findsTurn_13 rfl (lv_at hl 0 rfl) ?_
    refine va_get (D := G) (ci := 0) (C := RX0) (T := TX0) (N := 32) hx hb hts in_X0 hown hK hP 0 xk_this rfl 18 (by decide) (hts _ q651) (fun _ h => h) rfl dX0_findsTurn_14 ?_
    refine lv_iconst (v := 0) hx hb dX0_findsTurn_17 (by decide) ?_
    refine r_iald hx hb hK hP 25 0 xk_takenSpot rfl (f := takenSpot) 0 (nI_q 0) (by decide) (by decide) dX0_findsTurn_18 ?_
    refine r_top (y := nI p0) ep0 ?_
    refine lv_istore_n (lv' := [(1, .int (nI p0)), (0, .ref (a 0))]) hx hb dX0_findsTurn_19 rfl hl (by decide) rfl (fun ls hl => ?_)
    refine lv_aload_n hx hb dX0_findsTurn_20 rfl (lv_at hl 1 rfl) ?_
    refine va_get (D := G) (ci := 0) (C := RX0) (T := TX0) (N := 32) hx hb hts in_X0 hown hK hP 0 xk_this rfl 18 (by decide) (hts _ q651) (fun _ h => h) rfl dX0_findsTurn_21 ?_
    refine lv_iconst (v := 1) hx hb dX0_findsTurn_24 (by decide) ?_
    refine r_iald hx hb hK hP 25 0 xk_takenSpot rfl (f := takenSpot) 1 (nI_q 1) (by decide) (by decide) dX0_findsTurn_25 ?_
    refine r_top (y := nI p1) ep1 ?_
    refine lv_istore_n (lv' := [(2, .int (nI p1)), (1, .int (nI p0)), (0, .ref (a 0))]) hx hb dX0_findsTurn_26 rfl hl (by decide) rfl (fun ls hl => ?_)
    refine lv_aload_n hx hb dX0_findsTurn_27 rfl (lv_at hl 2 rfl) ?_
    refine lv_aload_n hx hb dX0_findsTurn_28 rfl (lv_at hl 2 rfl) ?_
    refine va_get (D := G) (ci := 0) (C := RX0) (T := TX0) (N := 32) hx hb hts in_X0 hown hK hP 0 xk_this rfl 3 (by decide) (hts _ q636) (fun _ h => h) rfl dX0_findsTurn_29 ?_
    refine lv_iconst (v := 1) hx hb dX0_findsTurn_32 (by decide) ?_
    refine xq_aald (r := .ref (a (6 + 1))) hx hb hK hP 5 10 xk_bodies rfl rfl 1 (nI_q 1) (by decide) (by decide) rfl dX0_findsTurn_33 ?_
    refine lv_iload_n hx hb dX0_findsTurn_34 rfl (lv_at hl 1 rfl) ?_
    obtain ⟨b_4, eb_4, mb_4, fb_4⟩ := hB 1 p0 (by decide) (by omega)
    refine xq_aald (r := .ref b_4) hx hb hK hP (6 + 1) 5 (xr_bodies (by decide)) rfl rfl p0 rfl (lt_mx hM (by decide) (by omega)) (mx_1000 _) (by rw [eb_4]; rfl) dX0_findsTurn_35 ?_
    refine lv_aload_n hx hb dX0_findsTurn_36 rfl (lv_at hl 2 rfl) ?_
    refine va_get (D := G) (ci := 0) (C := RX0) (T := TX0) (N := 32) hx hb hts in_X0 hown hK hP 0 xk_this rfl 3 (by decide) (hts _ q636) (fun _ h => h) rfl dX0_findsTurn_37 ?_
    refine lv_iconst (v := 1) hx hb dX0_findsTurn_40 (by decide) ?_
    refine xq_aald (r := .ref (a (6 + 1))) hx hb hK hP 5 10 xk_bodies rfl rfl 1 (nI_q 1) (by decide) (by decide) rfl dX0_findsTurn_41 ?_
    refine lv_iload_n hx hb dX0_findsTurn_42 rfl (lv_at hl 0 rfl) ?_
    obtain ⟨b_5, eb_5, mb_5, fb_5⟩ := hB 1 p1 (by decide) (by omega)
    refine xq_aald (r := .ref b_5) hx hb hK hP (6 + 1) 5 (xr_bodies (by decide)) rfl rfl p1 rfl (lt_mx hM (by decide) (by omega)) (mx_1000 _) (by rw [eb_5]; rfl) dX0_findsTurn_43 ?_
    refine lv_aload_n hx hb dX0_findsTurn_44 rfl (lv_at hl 2 rfl) ?_
    refine va_get (D := G) (ci := 0) (C := RX0) (T := TX0) (N := 32) hx hb hts in_X0 hown hK hP 0 xk_this rfl 21 (by decide) (hts _ q654) (fun _ h => h) rfl dX0_findsTurn_45 ?_
    refine va_calli (va_runV (As := [.ref b_4, .ref b_5, .ref (a 30)]) (rest := []) ⟨hx, hb, hml, hown, hts⟩ (mx_arms_spotArms l G t A a cs K many settings isVoted lotsNow seen keyOne keyTwo votes looked matched without trio takenStar takenAs takenSpot pairs starArms spotArms 0 places byStar byFar one usedNow laidMany finding dir b_4 1 p0 b_5 1 p1 (by decide) mb_4 fb_4 (by decide) mb_5 fb_5) (cwV 3 hts (lw_V q325 q327 qs20 q80 q328) rfl rfl rfl cd_X0_arms ⟨Nat.le_of_ble_eq_true rfl, Nat.le_of_ble_eq_true rfl⟩) ⟨xPr_fb, x_recv hP hK, fun U hU hW => ⟨rfl, xPr_of hP hK hD hS hA hE hU hW⟩⟩ rfl rfl hl.1 rfl (lv_room (Nat.le_of_ble_eq_true rfl)) dX0_findsTurn_48 ⟨Nat.le_of_ble_eq_true rfl, Nat.le_of_ble_eq_true rfl⟩) hS (fun _ _ h => h) (fun _ h => h) (fun r u tt H locs ht _ hq hP _ hkp hS => ?_)
    obtain ⟨u_6, one_u_6⟩ := u
    obtain ⟨rfl, rfl⟩ := hq
    have hP : va_P G vwCl (Xx t a K many settings isVoted lotsNow seen keyOne keyTwo votes looked matched without trio takenStar takenAs takenSpot pairs starArms (armsX spotArms dir (36 * 1 + 3 * p0) (36 * 1 + 3 * p1)) 0 places byStar byFar one_u_6 usedNow laidMany finding) H := by rw [← ht]; exact hP
    refine lv_istore_n (lv' := [(3, .int (b2i (anyX (armsX spotArms dir (36 * 1 + 3 * p0) (36 * 1 + 3 * p1))))), (2, .int (nI p1)), (1, .int (nI p0)), (0, .ref (a 0))]) hx hb dX0_findsTurn_51 rfl hl (by decide) rfl (fun ls hl => ?_)
    refine lv_aload_n hx hb dX0_findsTurn_52 rfl (lv_at hl 3 rfl) ?_
    refine lv_aload_n hx hb dX0_findsTurn_53 rfl (lv_at hl 3 rfl) ?_
    refine lv_aload_n hx hb dX0_findsTurn_54 rfl (lv_at hl 3 rfl) ?_
    refine va_get (D := G) (ci := 0) (C := RX0) (T := TX0) (N := 32) hx hb hts in_X0 hown hK hP 0 xk_this rfl 3 (by decide) (hts _ q636) (fun _ h => h) rfl dX0_findsTurn_55 ?_
    refine lv_iconst (v := 0) hx hb dX0_findsTurn_58 (by decide) ?_
    refine xq_aald (r := .ref (a (6 + 0))) hx hb hK hP 5 10 xk_bodies rfl rfl 0 (nI_q 0) (by decide) (by decide) rfl dX0_findsTurn_59 ?_
    refine lv_aload_n hx hb dX0_findsTurn_60 rfl (lv_at hl 3 rfl) ?_
    refine va_get (D := G) (ci := 0) (C := RX0) (T := TX0) (N := 32) hx hb hts in_X0 hown hK hP 0 xk_this rfl 16 (by decide) (hts _ q649) (fun _ h => h) rfl dX0_findsTurn_61 ?_
    refine lv_iload_n hx hb dX0_findsTurn_64 rfl (lv_at hl 2 rfl) ?_
    refine r_iald hx hb hK hP 23 0 xk_takenStar rfl (f := takenStar) p0 rfl (by omega) (by decide) dX0_findsTurn_65 ?_
    obtain ⟨b_7, eb_7, mb_7, fb_7⟩ := hB 0 i0 (by decide) (by omega)
    refine xq_aald (r := .ref b_7) hx hb hK hP (6 + 0) 5 (xr_bodies (by decide)) rfl rfl i0 ei0 (lt_mx hM (by decide) (by omega)) (mx_1000 _) (by rw [eb_7]; rfl) dX0_findsTurn_66 ?_
    refine lv_aload_n hx hb dX0_findsTurn_67 rfl (lv_at hl 3 rfl) ?_
    refine va_get (D := G) (ci := 0) (C := RX0) (T := TX0) (N := 32) hx hb hts in_X0 hown hK hP 0 xk_this rfl 3 (by decide) (hts _ q636) (fun _ h => h) rfl dX0_findsTurn_68 ?_
    refine lv_iconst (v := 0) hx hb dX0_findsTurn_71 (by decide) ?_
    refine xq_aald (r := .ref (a (6 + 0))) hx hb hK hP 5 10 xk_bodies rfl rfl 0 (nI_q 0) (by decide) (by decide) rfl dX0_findsTurn_72 ?_
    refine lv_aload_n hx hb dX0_findsTurn_73 rfl (lv_at hl 3 rfl) ?_
    refine va_get (D := G) (ci := 0) (C := RX0) (T := TX0) (N := 32) hx hb hts in_X0 hown hK hP 0 xk_this rfl 16 (by decide) (hts _ q649) (fun _ h => h) rfl dX0_findsTurn_74 ?_
    refine lv_iload_n hx hb dX0_findsTurn_77 rfl (lv_at hl 1 rfl) ?_
    refine r_iald hx hb hK hP 23 0 xk_takenStar rfl (f := takenStar) p1 rfl (by omega) (by decide) dX0_findsTurn_78 ?_
    obtain ⟨b_8, eb_8, mb_8, fb_8⟩ := hB 0 i1 (by decide) (by omega)
    refine xq_aald (r := .ref b_8) hx hb hK hP (6 + 0) 5 (xr_bodies (by decide)) rfl rfl i1 ei1 (lt_mx hM (by decide) (by omega)) (mx_1000 _) (by rw [eb_8]; rfl) dX0_findsTurn_79 ?_
    refine lv_aload_n hx hb dX0_findsTurn_80 rfl (lv_at hl 3 rfl) ?_
    refine va_get (D := G) (ci := 0) (C := RX0) (T := TX0) (N := 32) hx hb hts in_X0 hown hK hP 0 xk_this rfl 20 (by decide) (hts _ q653) (fun _ h => h) rfl dX0_findsTurn_81 ?_
    refine va_calli (va_runV (As := [.ref b_7, .ref b_8, .ref (a 26)]) (rest := [.ref (a 0)]) ⟨hx, hb, hml, hown, hts⟩ (mx_arms_starArms l G t A a cs K many settings isVoted lotsNow seen keyOne keyTwo votes looked matched without trio takenStar takenAs takenSpot pairs starArms (armsX spotArms dir (36 * 1 + 3 * p0) (36 * 1 + 3 * p1)) 0 places byStar byFar one_u_6 usedNow laidMany finding dir b_7 0 i0 b_8 0 i1 (by decide) mb_7 fb_7 (by decide) mb_8 fb_8) (cwV 3 hts (lw_V q325 q327 qs20 q80 q328) rfl rfl rfl cd_X0_arms ⟨Nat.le_of_ble_eq_true rfl, Nat.le_of_ble_eq_true rfl⟩) ⟨xPr_fb, x_recv hP hK, fun U hU hW => ⟨rfl, xPr_of hP hK hD hS hA hE hU hW⟩⟩ rfl rfl hl.1 rfl (lv_room (Nat.le_of_ble_eq_true rfl)) dX0_findsTurn_84 ⟨Nat.le_of_ble_eq_true rfl, Nat.le_of_ble_eq_true rfl⟩) hS (fun _ _ h => h) (fun _ h => h) (fun r u tt H locs ht _ hq hP _ hkp hS => ?_)
    obtain ⟨u_9, one_u_9⟩ := u
    obtain ⟨rfl, rfl⟩ := hq
    have hP : va_P G vwCl (Xx t a K many settings isVoted lotsNow seen keyOne keyTwo votes looked matched without trio takenStar takenAs takenSpot pairs (armsX starArms dir (36 * 0 + 3 * i0) (36 * 0 + 3 * i1)) (armsX spotArms dir (36 * 1 + 3 * p0) (36 * 1 + 3 * p1)) 0 places byStar byFar one_u_9 usedNow laidMany finding) H := by rw [← ht]; exact hP
    refine rb_eq (tgt := 98) hx hb dX0_findsTurn_87 (by decide) (fun c_10 => ?_) (fun c_10 => ?_)
    · refine lv_iconst (v := 0) hx hb dX0_findsTurn_98 (by decide) ?_
      refine va_put (D := G) (ci := 0) (v := .int 0) (ty := .boolean) (C := RX0) (T := TX0) (N := 32) hx hb hts in_X0 tyX0 tyX0_ok nmX0 hown hK hP (xD hD) hS 0 xk_this rfl 22 (by decide) (hts _ q655) (fun _ h => h) rfl (by decide +kernel) rfl rfl (Nat.le_of_ble_eq_true rfl) dX0_findsTurn_99 (fun H locs hP _ hS => ?_)
      have hP : va_P G vwCl (Xx t a K many settings isVoted lotsNow seen keyOne keyTwo votes looked matched without trio takenStar takenAs takenSpot pairs (armsX starArms dir (36 * 0 + 3 * i0) (36 * 0 + 3 * i1)) (armsX spotArms dir (36 * 1 + 3 * p0) (36 * 1 + 3 * p1)) 0 places byStar byFar one_u_9 usedNow laidMany finding) H := by rw [xs_isTurn] at hP; exact hP
      refine lv_iconst (v := 0) hx hb dX0_findsTurn_102 (by decide) ?_
      refine lv_istore_n (lv' := [(1, .int 0), (3, .int (b2i (anyX (armsX spotArms dir (36 * 1 + 3 * p0) (36 * 1 + 3 * p1))))), (2, .int (nI p1)), (0, .ref (a 0))]) hx hb dX0_findsTurn_103 rfl hl (by decide) rfl (fun ls hl => ?_)
      refine lv_iload_n hx hb dX0_findsTurn_104 rfl (lv_at hl 0 rfl) ?_
      refine lv_aload_n hx hb dX0_findsTurn_105 rfl (lv_at hl 3 rfl) ?_
      refine va_get (D := G) (ci := 0) (C := RX0) (T := TX0) (N := 32) hx hb hts in_X0 hown hK hP 0 xk_this rfl 4 (by decide) (hts _ q637) (fun _ h => h) rfl dX0_findsTurn_106 ?_
      refine lv_iconst (v := 0) hx hb dX0_findsTurn_109 (by decide) ?_
      refine r_iald hx hb hK hP 8 0 xk_many rfl (f := many) 0 (nI_q 0) (by decide) (by decide) dX0_findsTurn_110 ?_
      refine rn_ge (tgt := 132) hx hb dX0_findsTurn_111 (by decide) (nI_q 0) (hM 0 (by omega)).1 (by omega) (by omega) (fun c_11 => ?_) (fun c_11 => ?_)
      · have hP : va_P G vwCl (Xx t a K many settings isVoted lotsNow seen keyOne keyTwo votes looked matched without trio takenStar takenAs takenSpot pairs ((trnX dir (nK many 0) pairs p0 p1 i0 i1 starArms spotArms places).2.1) ((trnX dir (nK many 0) pairs p0 p1 i0 i1 starArms spotArms places).2.2.1) ((trnX dir (nK many 0) pairs p0 p1 i0 i1 starArms spotArms places).1) ((trnX dir (nK many 0) pairs p0 p1 i0 i1 starArms spotArms places).2.2.2) byStar byFar one_u_9 usedNow laidMany finding) H := by (unfold trnX; (first | rw [if_pos c_1] | rw [if_neg c_1] | (unfold trn2; first | rw [if_pos c_1] | rw [if_neg c_1])); (first | rw [if_pos c_10] | rw [if_neg c_10] | (unfold trn2; first | rw [if_pos c_10] | rw [if_neg c_10])); exact hP)
        exact W.vret hx hb hr (fun tt ht _ => ⟨⟨((trnX dir (nK many 0) pairs p0 p1 i0 i1 starArms spotArms places), one_u_9), rfl, rfl, (show va_P G vwCl ((fun (uv : (TNX) × (Nat → Int64)) => Xx t a K many settings isVoted lotsNow seen keyOne keyTwo votes looked matched without trio takenStar takenAs takenSpot pairs uv.1.2.1 uv.1.2.2.1 uv.1.1 uv.1.2.2.2 byStar byFar uv.2 usedNow laidMany finding) ((trnX dir (nK many 0) pairs p0 p1 i0 i1 starArms spotArms places), one_u_9)) tt.heap from by rw [ht]; exact hP)⟩, hS.F ht⟩) hS.2.2 dX0_findsTurn_132 hlk
      · refine lv_aload_n hx hb dX0_findsTurn_114 rfl (lv_at hl 3 rfl) ?_
        refine va_get (D := G) (ci := 0) (C := RX0) (T := TX0) (N := 32) hx hb hts in_X0 hown hK hP 0 xk_this rfl 22 (by decide) (hts _ q655) (fun _ h => h) rfl dX0_findsTurn_115 ?_
        refine lv_if_eq (tgt := 132) hx hb dX0_findsTurn_118 (by decide) (fun c_12 => ?_) (fun c_12 => absurd c_12 (by decide))
        have hP : va_P G vwCl (Xx t a K many settings isVoted lotsNow seen keyOne keyTwo votes looked matched without trio takenStar takenAs takenSpot pairs ((trnX dir (nK many 0) pairs p0 p1 i0 i1 starArms spotArms places).2.1) ((trnX dir (nK many 0) pairs p0 p1 i0 i1 starArms spotArms places).2.2.1) ((trnX dir (nK many 0) pairs p0 p1 i0 i1 starArms spotArms places).1) ((trnX dir (nK many 0) pairs p0 p1 i0 i1 starArms spotArms places).2.2.2) byStar byFar one_u_9 usedNow laidMany finding) H := by (unfold trnX; (first | rw [if_pos c_1] | rw [if_neg c_1] | (unfold trn2; first | rw [if_pos c_1] | rw [if_neg c_1])); (first | rw [if_pos c_10] | rw [if_neg c_10] | (unfold trn2; first | rw [if_pos c_10] | rw [if_neg c_10])); exact hP)
        exact W.vret hx hb hr (fun tt ht _ => ⟨⟨((trnX dir (nK many 0) pairs p0 p1 i0 i1 starArms spotArms places), one_u_9), rfl, rfl, (show va_P G vwCl ((fun (uv : (TNX) × (Nat → Int64)) => Xx t a K many settings isVoted lotsNow seen keyOne keyTwo votes looked matched without trio takenStar takenAs takenSpot pairs uv.1.2.1 uv.1.2.2.1 uv.1.1 uv.1.2.2.2 byStar byFar uv.2 usedNow laidMany finding) ((trnX dir (nK many 0) pairs p0 p1 i0 i1 starArms spotArms places), one_u_9)) tt.heap from by rw [ht]; exact hP)⟩, hS.F ht⟩) hS.2.2 dX0_findsTurn_132 hlk
    · refine lv_iload_n hx hb dX0_findsTurn_90 rfl (lv_at hl 0 rfl) ?_
      refine rb_eq (tgt := 98) hx hb dX0_findsTurn_91 (by decide) (fun c_13 => ?_) (fun c_13 => ?_)
      · refine lv_iconst (v := 0) hx hb dX0_findsTurn_98 (by decide) ?_
        refine va_put (D := G) (ci := 0) (v := .int 0) (ty := .boolean) (C := RX0) (T := TX0) (N := 32) hx hb hts in_X0 tyX0 tyX0_ok nmX0 hown hK hP (xD hD) hS 0 xk_this rfl 22 (by decide) (hts _ q655) (fun _ h => h) rfl (by decide +kernel) rfl rfl (Nat.le_of_ble_eq_true rfl) dX0_findsTurn_99 (fun H locs hP _ hS => ?_)
        have hP : va_P G vwCl (Xx t a K many settings isVoted lotsNow seen keyOne keyTwo votes looked matched without trio takenStar takenAs takenSpot pairs (armsX starArms dir (36 * 0 + 3 * i0) (36 * 0 + 3 * i1)) (armsX spotArms dir (36 * 1 + 3 * p0) (36 * 1 + 3 * p1)) 0 places byStar byFar one_u_9 usedNow laidMany finding) H := by rw [xs_isTurn] at hP; exact hP
        refine lv_iconst (v := 0) hx hb dX0_findsTurn_102 (by decide) ?_
        refine lv_istore_n (lv' := [(1, .int 0), (3, .int (b2i (anyX (armsX spotArms dir (36 * 1 + 3 * p0) (36 * 1 + 3 * p1))))), (2, .int (nI p1)), (0, .ref (a 0))]) hx hb dX0_findsTurn_103 rfl hl (by decide) rfl (fun ls hl => ?_)
        refine lv_iload_n hx hb dX0_findsTurn_104 rfl (lv_at hl 0 rfl) ?_
        refine lv_aload_n hx hb dX0_findsTurn_105 rfl (lv_at hl 3 rfl) ?_
        refine va_get (D := G) (ci := 0) (C := RX0) (T := TX0) (N := 32) hx hb hts in_X0 hown hK hP 0 xk_this rfl 4 (by decide) (hts _ q637) (fun _ h => h) rfl dX0_findsTurn_106 ?_
        refine lv_iconst (v := 0) hx hb dX0_findsTurn_109 (by decide) ?_
        refine r_iald hx hb hK hP 8 0 xk_many rfl (f := many) 0 (nI_q 0) (by decide) (by decide) dX0_findsTurn_110 ?_
        refine rn_ge (tgt := 132) hx hb dX0_findsTurn_111 (by decide) (nI_q 0) (hM 0 (by omega)).1 (by omega) (by omega) (fun c_14 => ?_) (fun c_14 => ?_)
        · have hP : va_P G vwCl (Xx t a K many settings isVoted lotsNow seen keyOne keyTwo votes looked matched without trio takenStar takenAs takenSpot pairs ((trnX dir (nK many 0) pairs p0 p1 i0 i1 starArms spotArms places).2.1) ((trnX dir (nK many 0) pairs p0 p1 i0 i1 starArms spotArms places).2.2.1) ((trnX dir (nK many 0) pairs p0 p1 i0 i1 starArms spotArms places).1) ((trnX dir (nK many 0) pairs p0 p1 i0 i1 starArms spotArms places).2.2.2) byStar byFar one_u_9 usedNow laidMany finding) H := by (unfold trnX; (first | rw [if_pos c_1] | rw [if_neg c_1] | (unfold trn2; first | rw [if_pos c_1] | rw [if_neg c_1])); (first | rw [if_pos c_10] | rw [if_neg c_10] | (unfold trn2; first | rw [if_pos c_10] | rw [if_neg c_10])); (first | rw [if_pos c_13] | rw [if_neg c_13] | (unfold trn2; first | rw [if_pos c_13] | rw [if_neg c_13])); exact hP)
          exact W.vret hx hb hr (fun tt ht _ => ⟨⟨((trnX dir (nK many 0) pairs p0 p1 i0 i1 starArms spotArms places), one_u_9), rfl, rfl, (show va_P G vwCl ((fun (uv : (TNX) × (Nat → Int64)) => Xx t a K many settings isVoted lotsNow seen keyOne keyTwo votes looked matched without trio takenStar takenAs takenSpot pairs uv.1.2.1 uv.1.2.2.1 uv.1.1 uv.1.2.2.2 byStar byFar uv.2 usedNow laidMany finding) ((trnX dir (nK many 0) pairs p0 p1 i0 i1 starArms spotArms places), one_u_9)) tt.heap from by rw [ht]; exact hP)⟩, hS.F ht⟩) hS.2.2 dX0_findsTurn_132 hlk
        · refine lv_aload_n hx hb dX0_findsTurn_114 rfl (lv_at hl 3 rfl) ?_
          refine va_get (D := G) (ci := 0) (C := RX0) (T := TX0) (N := 32) hx hb hts in_X0 hown hK hP 0 xk_this rfl 22 (by decide) (hts _ q655) (fun _ h => h) rfl dX0_findsTurn_115 ?_
          refine lv_if_eq (tgt := 132) hx hb dX0_findsTurn_118 (by decide) (fun c_15 => ?_) (fun c_15 => absurd c_15 (by decide))
          have hP : va_P G vwCl (Xx t a K many settings isVoted lotsNow seen keyOne keyTwo votes looked matched without trio takenStar takenAs takenSpot pairs ((trnX dir (nK many 0) pairs p0 p1 i0 i1 starArms spotArms places).2.1) ((trnX dir (nK many 0) pairs p0 p1 i0 i1 starArms spotArms places).2.2.1) ((trnX dir (nK many 0) pairs p0 p1 i0 i1 starArms spotArms places).1) ((trnX dir (nK many 0) pairs p0 p1 i0 i1 starArms spotArms places).2.2.2) byStar byFar one_u_9 usedNow laidMany finding) H := by (unfold trnX; (first | rw [if_pos c_1] | rw [if_neg c_1] | (unfold trn2; first | rw [if_pos c_1] | rw [if_neg c_1])); (first | rw [if_pos c_10] | rw [if_neg c_10] | (unfold trn2; first | rw [if_pos c_10] | rw [if_neg c_10])); (first | rw [if_pos c_13] | rw [if_neg c_13] | (unfold trn2; first | rw [if_pos c_13] | rw [if_neg c_13])); exact hP)
          exact W.vret hx hb hr (fun tt ht _ => ⟨⟨((trnX dir (nK many 0) pairs p0 p1 i0 i1 starArms spotArms places), one_u_9), rfl, rfl, (show va_P G vwCl ((fun (uv : (TNX) × (Nat → Int64)) => Xx t a K many settings isVoted lotsNow seen keyOne keyTwo votes looked matched without trio takenStar takenAs takenSpot pairs uv.1.2.1 uv.1.2.2.1 uv.1.1 uv.1.2.2.2 byStar byFar uv.2 usedNow laidMany finding) ((trnX dir (nK many 0) pairs p0 p1 i0 i1 starArms spotArms places), one_u_9)) tt.heap from by rw [ht]; exact hP)⟩, hS.F ht⟩) hS.2.2 dX0_findsTurn_132 hlk
      · refine lv_iconst (v := 1) hx hb dX0_findsTurn_94 (by decide) ?_
        refine lv_goto (tgt := 99) hx hb dX0_findsTurn_95 (by decide) ?_
        refine va_put (D := G) (ci := 0) (v := .int 1) (ty := .boolean) (C := RX0) (T := TX0) (N := 32) hx hb hts in_X0 tyX0 tyX0_ok nmX0 hown hK hP (xD hD) hS 0 xk_this rfl 22 (by decide) (hts _ q655) (fun _ h => h) rfl (by decide +kernel) rfl rfl (Nat.le_of_ble_eq_true rfl) dX0_findsTurn_99 (fun H locs hP _ hS => ?_)
        have hP : va_P G vwCl (Xx t a K many settings isVoted lotsNow seen keyOne keyTwo votes looked matched without trio takenStar takenAs takenSpot pairs (armsX starArms dir (36 * 0 + 3 * i0) (36 * 0 + 3 * i1)) (armsX spotArms dir (36 * 1 + 3 * p0) (36 * 1 + 3 * p1)) 1 places byStar byFar one_u_9 usedNow laidMany finding) H := by rw [xs_isTurn] at hP; exact hP
        refine lv_iconst (v := 0) hx hb dX0_findsTurn_102 (by decide) ?_
        refine lv_istore_n (lv' := [(1, .int 0), (3, .int (b2i (anyX (armsX spotArms dir (36 * 1 + 3 * p0) (36 * 1 + 3 * p1))))), (2, .int (nI p1)), (0, .ref (a 0))]) hx hb dX0_findsTurn_103 rfl hl (by decide) rfl (fun ls hl => ?_)
        have hP : va_P G vwCl (Xx t a K many settings isVoted lotsNow seen keyOne keyTwo votes looked matched without trio takenStar takenAs takenSpot pairs (armsX starArms dir (36 * 0 + 3 * i0) (36 * 0 + 3 * i1)) (armsX spotArms dir (36 * 1 + 3 * p0) (36 * 1 + 3 * p1)) 1 (plcsX dir (armsX starArms dir (36 * 0 + 3 * i0) (36 * 0 + 3 * i1)) (armsX spotArms dir (36 * 1 + 3 * p0) (36 * 1 + 3 * p1)) 0 places) byStar byFar one_u_9 usedNow laidMany finding) H := by exact hP
        refine lx_places G t A a cs K many settings isVoted lotsNow seen keyOne keyTwo votes looked matched without trio takenStar takenAs takenSpot pairs (armsX starArms dir (36 * 0 + 3 * i0) (36 * 0 + 3 * i1)) (armsX spotArms dir (36 * 1 + 3 * p0) (36 * 1 + 3 * p1)) 1 places byStar byFar usedNow laidMany finding dir hM hB (by omega) (by decide) (hX i0 i1 starArms j0 j1 c_10) hx hb hml hown hts hK hD hA hE ((nK many 0) - 0) 0 (by omega) (by omega) _ _ _ _ hP hS (lv_sub hl [3, 0] rfl) (fun one_v_16 H locs ls hP hS hl => ?_)
        have hP : va_P G vwCl (Xx t a K many settings isVoted lotsNow seen keyOne keyTwo votes looked matched without trio takenStar takenAs takenSpot pairs ((trnX dir (nK many 0) pairs p0 p1 i0 i1 starArms spotArms places).2.1) ((trnX dir (nK many 0) pairs p0 p1 i0 i1 starArms spotArms places).2.2.1) ((trnX dir (nK many 0) pairs p0 p1 i0 i1 starArms spotArms places).1) ((trnX dir (nK many 0) pairs p0 p1 i0 i1 starArms spotArms places).2.2.2) byStar byFar one_v_16 usedNow laidMany finding) H := by (unfold trnX; (first | rw [if_pos c_1] | rw [if_neg c_1] | (unfold trn2; first | rw [if_pos c_1] | rw [if_neg c_1])); (first | rw [if_pos c_10] | rw [if_neg c_10] | (unfold trn2; first | rw [if_pos c_10] | rw [if_neg c_10])); (first | rw [if_pos c_13] | rw [if_neg c_13] | (unfold trn2; first | rw [if_pos c_13] | rw [if_neg c_13])); exact hP)
        exact W.vret hx hb hr (fun tt ht _ => ⟨⟨((trnX dir (nK many 0) pairs p0 p1 i0 i1 starArms spotArms places), one_v_16), rfl, rfl, (show va_P G vwCl ((fun (uv : (TNX) × (Nat → Int64)) => Xx t a K many settings isVoted lotsNow seen keyOne keyTwo votes looked matched without trio takenStar takenAs takenSpot pairs uv.1.2.1 uv.1.2.2.1 uv.1.1 uv.1.2.2.2 byStar byFar uv.2 usedNow laidMany finding) ((trnX dir (nK many 0) pairs p0 p1 i0 i1 starArms spotArms places), one_v_16)) tt.heap from by rw [ht]; exact hP)⟩, hS.F ht⟩) hS.2.2 dX0_findsTurn_132 hlk

set_option maxHeartbeats 4000000 in
theorem lx_conf {p : Program} {l : Launch} {e : Env} {s : State} {m : MethodId} {args : Array Value} {below : List Frame} {meth : Method} {c : Code} {Q : State → Prop} {H0 : Heap} (G : va_G) (t : Nat → ClassId) (A : Nat → Prop) (a : Nat → Nat) (cs : Nat → ClassId) (K : XK) (many : (Nat → Int32)) (settings : (Nat → Int32)) (isVoted : Int32) (lotsNow : Int32) (seen : (Nat → Int32)) (keyOne : (Nat → Int32)) (keyTwo : (Nat → Int32)) (votes : (Nat → Int32)) (looked : Int32) (matched : Int32) (without : Int32) (trio : (Nat → Int32)) (takenStar : (Nat → Int32)) (takenAs : (Nat → Int32)) (takenSpot : (Nat → Int32)) (pairs : Int32) (starArms : (Nat → Int64)) (spotArms : (Nat → Int64)) (isTurn : Int32) (places : (Nat → Int32)) (one : (Nat → Int64)) (usedNow : (Nat → Int32)) (laidMany : (Nat → Int32)) (finding : Int32) (v0 : SF) (dir : (Nat → Int32)) (pp : Nat) (hM : Mok many) (hB : BodOk K dir many) (h0 : nK many 0 ≤ 12) (h8 : nK many 1 ≤ 8) (h1 : pp < nK many 1) (hok : okX isTurn without pp) (hx : p.tables.exec = Jvm.exec) (hb : c.code = cX0_confirms) (hml : c.maxLocals = 6) (hown : s.vm.findClass RX0 = some m.cls) (hts : ∀ w ∈ lw_all, w.before args s = true) (hK : va_K G vwCl (Tys t) s) (hD : XD A a K.L) (hA : ∀ q, H0.size ≤ q → A q) (hE : xE A a cs s H0) : ∀ (n i : Nat), 0 ≤ i → i + n = (nK many 0) → ∀ (H : Heap) (locs : List Loc) (ls : Array Slot), va_P G vwCl (Xx t a K many settings isVoted lotsNow seen keyOne keyTwo votes looked matched without trio takenStar takenAs takenSpot pairs starArms spotArms isTurn places ((cnfI dir places usedNow (settings 3) pp i v0).1) ((cnfI dir places usedNow (settings 3) pp i v0).2) one usedNow laidMany finding) H → va_S A H0 H locs → lv_has ls 6 [(0, .ref (a 0)), (1, .int (nI pp)), (2, .ref (a 50)), (3, .int (nI i))] → (∀ (H : Heap) (locs : List Loc) (ls : Array Slot), va_P G vwCl (Xx t a K many settings isVoted lotsNow seen keyOne keyTwo votes looked matched without trio takenStar takenAs takenSpot pairs starArms spotArms isTurn places ((cnfI dir places usedNow (settings 3) pp (nK many 0) v0).1) ((cnfI dir places usedNow (settings 3) pp (nK many 0) v0).2) one usedNow laidMany finding) H → va_S A H0 H locs → lv_has ls 6 [(0, .ref (a 0)), (1, .int (nI pp)), (2, .ref (a 50)), (3, .int (nI (nK many 0)))] → W p l e (rm_ 0 2 0 0) s m args below meth c H locs 0 0 Q (F0 m 120 ls [])) → W p l e (rm_ 0 2 0 0) s m args below meth c H locs 0 0 Q (F0 m 16 ls []) := by
  intro n
  induction n with
  | zero =>
    intro i hlo hi H locs ls hP hS hl hex
    have hie : i = (nK many 0) := by omega
    subst hie
    refine lv_iload_n hx hb dX0_confirms_16 rfl (lv_at hl 3 rfl) ?_
    refine lv_aload_n hx hb dX0_confirms_17 rfl (lv_at hl 0 rfl) ?_
    refine va_get (D := G) (ci := 0) (C := RX0) (T := TX0) (N := 32) hx hb hts in_X0 hown hK hP 0 xk_this rfl 4 (by decide) (hts _ q637) (fun _ h => h) rfl dX0_confirms_18 ?_
    refine lv_iconst (v := 0) hx hb dX0_confirms_21 (by decide) ?_
    refine r_iald hx hb hK hP 8 0 xk_many rfl (f := many) 0 (nI_q 0) (by decide) (by decide) dX0_confirms_22 ?_
    refine rn_ge (tgt := 120) hx hb dX0_confirms_23 (by decide) rfl (hM 0 (by omega)).1 (by omega) (by omega) (fun c_1 => ?_) (fun c_1 => absurd c_1 (by omega))
    exact hex _ _ _ hP hS (lv_sub hl [0, 1, 2, 3] rfl)
  | succ n ih =>
    intro i hlo hi H locs ls hP hS hl hex
    have hlt : i < (nK many 0) := by omega
    refine lv_iload_n hx hb dX0_confirms_16 rfl (lv_at hl 3 rfl) ?_
    refine lv_aload_n hx hb dX0_confirms_17 rfl (lv_at hl 0 rfl) ?_
    refine va_get (D := G) (ci := 0) (C := RX0) (T := TX0) (N := 32) hx hb hts in_X0 hown hK hP 0 xk_this rfl 4 (by decide) (hts _ q637) (fun _ h => h) rfl dX0_confirms_18 ?_
    refine lv_iconst (v := 0) hx hb dX0_confirms_21 (by decide) ?_
    refine r_iald hx hb hK hP 8 0 xk_many rfl (f := many) 0 (nI_q 0) (by decide) (by decide) dX0_confirms_22 ?_
    refine rn_ge (tgt := 120) hx hb dX0_confirms_23 (by decide) rfl (hM 0 (by omega)).1 (by omega) (by omega) (fun c_1 => absurd c_1 (by omega)) (fun c_1 => ?_)
    refine lv_aload_n hx hb dX0_confirms_26 rfl (lv_at hl 0 rfl) ?_
    refine va_get (D := G) (ci := 0) (C := RX0) (T := TX0) (N := 32) hx hb hts in_X0 hown hK hP 0 xk_this rfl 22 (by decide) (hts _ q655) (fun _ h => h) rfl dX0_confirms_27 ?_
    refine lv_if_eq (tgt := 120) hx hb dX0_confirms_30 (by decide) (fun c_2 => (hok.1 c_2).elim) (fun c_2 => ?_)
    refine lv_iload_n hx hb dX0_confirms_33 rfl (lv_at hl 1 rfl) ?_
    refine lv_aload_n hx hb dX0_confirms_34 rfl (lv_at hl 0 rfl) ?_
    refine va_get (D := G) (ci := 0) (C := RX0) (T := TX0) (N := 32) hx hb hts in_X0 hown hK hP 0 xk_this rfl 14 (by decide) (hts _ q647) (fun _ h => h) rfl dX0_confirms_35 ?_
    refine lv_icmp_eq (tgt := 120) hx hb dX0_confirms_38 (by decide) (fun c_3 => (hok.2 c_3).elim) (fun c_3 => ?_)
    refine lv_aload_n hx hb dX0_confirms_41 rfl (lv_at hl 0 rfl) ?_
    refine lv_iload_n hx hb dX0_confirms_42 rfl (lv_at hl 1 rfl) ?_
    refine lv_iload_n hx hb dX0_confirms_43 rfl (lv_at hl 3 rfl) ?_
    refine vp_callSi (W.runV (As := [.int (nI pp), .int (nI i)]) (rest := []) ⟨hx, hb, hml, hown, hts⟩ (mx_farOf l G t A a cs K many settings isVoted lotsNow seen keyOne keyTwo votes looked matched without trio takenStar takenAs takenSpot pairs starArms spotArms isTurn places ((cnfI dir places usedNow (settings 3) pp i v0).1) ((cnfI dir places usedNow (settings 3) pp i v0).2) one usedNow laidMany finding dir pp i hM hB (by omega) (by omega)) (cwV 2 hts (lw_V q354 q356 qs23 q80 q357) rfl rfl rfl cd_X0_farOf ⟨Nat.le_of_ble_eq_true rfl, Nat.le_of_ble_eq_true rfl⟩) ⟨xPr_fb, x_recv hP hK, fun U hU hW => ⟨rfl, xPr_of hP hK hD hS hA hE hU hW⟩⟩ rfl rfl hl.1 rfl (lv_room (Nat.le_of_ble_eq_true rfl)) dX0_confirms_44 ⟨Nat.le_of_ble_eq_true rfl, Nat.le_of_ble_eq_true rfl⟩) (fun r hr => ?_)
    subst hr
    refine lv_istore (lv' := [(4, .int (farX dir places pp i)), (0, .ref (a 0)), (1, .int (nI pp)), (2, .ref (a 50)), (3, .int (nI i))]) hx hb dX0_confirms_47 hl (by decide) rfl (fun ls hl => ?_)
    refine lv_aload_n hx hb dX0_confirms_49 rfl (lv_at hl 1 rfl) ?_
    refine va_get (D := G) (ci := 0) (C := RX0) (T := TX0) (N := 32) hx hb hts in_X0 hown hK hP 0 xk_this rfl 24 (by decide) (hts _ q657) (fun _ h => h) rfl dX0_confirms_50 ?_
    refine lv_iload_n hx hb dX0_confirms_53 rfl (lv_at hl 2 rfl) ?_
    refine r_iald hx hb hK hP 47 0 xk_byStar rfl (f := (cnfI dir places usedNow (settings 3) pp i v0).1) pp rfl (by omega) (by decide) dX0_confirms_54 ?_
    refine lv_iconst (v := (-1)) hx hb dX0_confirms_55 (by decide) ?_
    refine lv_icmp_eq (tgt := 70) hx hb dX0_confirms_56 (by decide) (fun c_4 => ?_) (fun c_4 => ?_)
    · refine lv_iconst (v := 1) hx hb dX0_confirms_70 (by decide) ?_
      refine lv_goto (tgt := 75) hx hb dX0_confirms_71 (by decide) ?_
      refine lv_istore (lv' := [(5, .int 1), (4, .int (farX dir places pp i)), (0, .ref (a 0)), (1, .int (nI pp)), (2, .ref (a 50)), (3, .int (nI i))]) hx hb dX0_confirms_75 hl (by decide) rfl (fun ls hl => ?_)
      refine lv_aload_n hx hb dX0_confirms_77 rfl (lv_at hl 4 rfl) ?_
      refine lv_iload_n hx hb dX0_confirms_78 rfl (lv_at hl 5 rfl) ?_
      refine r_iald hx hb hK hP 50 0 xk_usedNow rfl (f := usedNow) i rfl (by omega) (by decide) dX0_confirms_79 ?_
      refine lv_if_ne (tgt := 114) hx hb dX0_confirms_80 (by decide) (fun c_5 => ?_) (fun c_5 => ?_)
      · refine lv_iinc (v := nI (i + 1)) (lv' := [(3, .int (nI (i + 1))), (5, .int 1), (4, .int (farX dir places pp i)), (0, .ref (a 0)), (1, .int (nI pp)), (2, .ref (a 50))]) hx hb dX0_confirms_114 hl (k := 5) rfl (iinc_nI rfl) (by decide) rfl (fun ls hl => ?_)
        refine lv_goto (tgt := 16) hx hb dX0_confirms_117 (by decide) ?_
        have e4 : (cnfI dir places usedNow (settings 3) pp (i + 1) v0) = (cnfI dir places usedNow (settings 3) pp i v0) := by rw [cnfI_s]; unfold cnfS; (first | rw [if_pos c_4] | rw [if_neg c_4]); (first | rw [if_pos c_5] | rw [if_neg c_5])
        have hP : va_P G vwCl (Xx t a K many settings isVoted lotsNow seen keyOne keyTwo votes looked matched without trio takenStar takenAs takenSpot pairs starArms spotArms isTurn places ((cnfI dir places usedNow (settings 3) pp (i + 1) v0).1) ((cnfI dir places usedNow (settings 3) pp (i + 1) v0).2) one usedNow laidMany finding) H := by rw [e4]; exact hP
        exact ih (i + 1) (by omega) (by omega) _ _ _ hP hS (lv_sub hl [3, 4, 5, 0] rfl) hex
      · refine lv_iload hx hb dX0_confirms_83 (lv_at hl 1 rfl) ?_
        refine lv_aload_n hx hb dX0_confirms_85 rfl (lv_at hl 2 rfl) ?_
        refine va_get (D := G) (ci := 0) (C := RX0) (T := TX0) (N := 32) hx hb hts in_X0 hown hK hP 0 xk_this rfl 5 (by decide) (hts _ q638) (fun _ h => h) rfl dX0_confirms_86 ?_
        refine lv_iconst (v := 3) hx hb dX0_confirms_89 (by decide) ?_
        refine r_iald hx hb hK hP 9 0 xk_settings rfl (f := settings) 3 (nI_q 3) (by decide) (by decide) dX0_confirms_90 ?_
        refine lv_icmp_gt (tgt := 114) hx hb dX0_confirms_91 (by decide) (fun c_6 => ?_) (fun c_6 => ?_)
        · have c_6 := Int32.not_le.mpr c_6
          refine lv_iinc (v := nI (i + 1)) (lv' := [(3, .int (nI (i + 1))), (5, .int 1), (4, .int (farX dir places pp i)), (0, .ref (a 0)), (1, .int (nI pp)), (2, .ref (a 50))]) hx hb dX0_confirms_114 hl (k := 5) rfl (iinc_nI rfl) (by decide) rfl (fun ls hl => ?_)
          refine lv_goto (tgt := 16) hx hb dX0_confirms_117 (by decide) ?_
          have e4 : (cnfI dir places usedNow (settings 3) pp (i + 1) v0) = (cnfI dir places usedNow (settings 3) pp i v0) := by rw [cnfI_s]; unfold cnfS; (first | rw [if_pos c_4] | rw [if_neg c_4]); (first | rw [if_pos c_5] | rw [if_neg c_5]); (first | rw [if_pos c_6] | rw [if_neg c_6])
          have hP : va_P G vwCl (Xx t a K many settings isVoted lotsNow seen keyOne keyTwo votes looked matched without trio takenStar takenAs takenSpot pairs starArms spotArms isTurn places ((cnfI dir places usedNow (settings 3) pp (i + 1) v0).1) ((cnfI dir places usedNow (settings 3) pp (i + 1) v0).2) one usedNow laidMany finding) H := by rw [e4]; exact hP
          exact ih (i + 1) (by omega) (by omega) _ _ _ hP hS (lv_sub hl [3, 4, 5, 0] rfl) hex
        · have c_6 := Int32.not_lt.mp c_6
          refine lv_iload hx hb dX0_confirms_94 (lv_at hl 0 rfl) ?_
          refine lv_if_eq (tgt := 114) hx hb dX0_confirms_96 (by decide) (fun c_7 => absurd c_7 (by decide)) (fun c_7 => ?_)
          refine lv_aload_n hx hb dX0_confirms_99 rfl (lv_at hl 2 rfl) ?_
          refine va_get (D := G) (ci := 0) (C := RX0) (T := TX0) (N := 32) hx hb hts in_X0 hown hK hP 0 xk_this rfl 24 (by decide) (hts _ q657) (fun _ h => h) rfl dX0_confirms_100 ?_
          refine lv_iload_n hx hb dX0_confirms_103 rfl (lv_at hl 3 rfl) ?_
          refine lv_iload_n hx hb dX0_confirms_104 rfl (lv_at hl 5 rfl) ?_
          refine r_iast hx hb hK hP (xD hD) hS 47 0 xk_byStar rfl pp rfl (by omega) (by decide) dX0_confirms_105 (ws' := Xx t a K many settings isVoted lotsNow seen keyOne keyTwo votes looked matched without trio takenStar takenAs takenSpot pairs starArms spotArms isTurn places (upd ((cnfI dir places usedNow (settings 3) pp i v0).1) pp (nI i)) ((cnfI dir places usedNow (settings 3) pp i v0).2) one usedNow laidMany finding) (xs_byStar _) (fun H locs hP hS => ?_)
          refine lv_aload_n hx hb dX0_confirms_106 rfl (lv_at hl 2 rfl) ?_
          refine va_get (D := G) (ci := 0) (C := RX0) (T := TX0) (N := 32) hx hb hts in_X0 hown hK hP 0 xk_this rfl 25 (by decide) (hts _ q658) (fun _ h => h) rfl dX0_confirms_107 ?_
          refine lv_iload_n hx hb dX0_confirms_110 rfl (lv_at hl 3 rfl) ?_
          refine lv_iload hx hb dX0_confirms_111 (lv_at hl 1 rfl) ?_
          refine r_iast hx hb hK hP (xD hD) hS 48 0 xk_byFar rfl pp rfl (by omega) (by decide) dX0_confirms_113 (ws' := Xx t a K many settings isVoted lotsNow seen keyOne keyTwo votes looked matched without trio takenStar takenAs takenSpot pairs starArms spotArms isTurn places (upd ((cnfI dir places usedNow (settings 3) pp i v0).1) pp (nI i)) (upd ((cnfI dir places usedNow (settings 3) pp i v0).2) pp (farX dir places pp i)) one usedNow laidMany finding) (xs_byFar _) (fun H locs hP hS => ?_)
          refine lv_iinc (v := nI (i + 1)) (lv' := [(3, .int (nI (i + 1))), (5, .int 1), (4, .int (farX dir places pp i)), (0, .ref (a 0)), (1, .int (nI pp)), (2, .ref (a 50))]) hx hb dX0_confirms_114 hl (k := 5) rfl (iinc_nI rfl) (by decide) rfl (fun ls hl => ?_)
          refine lv_goto (tgt := 16) hx hb dX0_confirms_117 (by decide) ?_
          have e4 : (cnfI dir places usedNow (settings 3) pp (i + 1) v0) = ((upd ((cnfI dir places usedNow (settings 3) pp i v0).1) pp (nI i)), (upd ((cnfI dir places usedNow (settings 3) pp i v0).2) pp (farX dir places pp i))) := by rw [cnfI_s]; unfold cnfS; (first | rw [if_pos c_4] | rw [if_neg c_4]); (first | rw [if_pos c_5] | rw [if_neg c_5]); (first | rw [if_pos c_6] | rw [if_neg c_6])
          have hP : va_P G vwCl (Xx t a K many settings isVoted lotsNow seen keyOne keyTwo votes looked matched without trio takenStar takenAs takenSpot pairs starArms spotArms isTurn places ((cnfI dir places usedNow (settings 3) pp (i + 1) v0).1) ((cnfI dir places usedNow (settings 3) pp (i + 1) v0).2) one usedNow laidMany finding) H := by rw [e4]; exact hP
          exact ih (i + 1) (by omega) (by omega) _ _ _ hP hS (lv_sub hl [3, 4, 5, 0] rfl) hex
    · refine lv_iload hx hb dX0_confirms_59 (lv_at hl 0 rfl) ?_
      refine lv_aload_n hx hb dX0_confirms_61 rfl (lv_at hl 1 rfl) ?_
      refine va_get (D := G) (ci := 0) (C := RX0) (T := TX0) (N := 32) hx hb hts in_X0 hown hK hP 0 xk_this rfl 25 (by decide) (hts _ q658) (fun _ h => h) rfl dX0_confirms_62 ?_
      refine lv_iload_n hx hb dX0_confirms_65 rfl (lv_at hl 2 rfl) ?_
      refine r_iald hx hb hK hP 48 0 xk_byFar rfl (f := (cnfI dir places usedNow (settings 3) pp i v0).2) pp rfl (by omega) (by decide) dX0_confirms_66 ?_
      refine lv_icmp_ge (tgt := 74) hx hb dX0_confirms_67 (by decide) (fun c_8 => ?_) (fun c_8 => ?_)
      · have c_8 := Int32.not_lt.mpr c_8
        refine lv_iconst (v := 0) hx hb dX0_confirms_74 (by decide) ?_
        refine lv_istore (lv' := [(5, .int 0), (4, .int (farX dir places pp i)), (0, .ref (a 0)), (1, .int (nI pp)), (2, .ref (a 50)), (3, .int (nI i))]) hx hb dX0_confirms_75 hl (by decide) rfl (fun ls hl => ?_)
        refine lv_aload_n hx hb dX0_confirms_77 rfl (lv_at hl 4 rfl) ?_
        refine lv_iload_n hx hb dX0_confirms_78 rfl (lv_at hl 5 rfl) ?_
        refine r_iald hx hb hK hP 50 0 xk_usedNow rfl (f := usedNow) i rfl (by omega) (by decide) dX0_confirms_79 ?_
        refine lv_if_ne (tgt := 114) hx hb dX0_confirms_80 (by decide) (fun c_9 => ?_) (fun c_9 => ?_)
        · refine lv_iinc (v := nI (i + 1)) (lv' := [(3, .int (nI (i + 1))), (5, .int 0), (4, .int (farX dir places pp i)), (0, .ref (a 0)), (1, .int (nI pp)), (2, .ref (a 50))]) hx hb dX0_confirms_114 hl (k := 5) rfl (iinc_nI rfl) (by decide) rfl (fun ls hl => ?_)
          refine lv_goto (tgt := 16) hx hb dX0_confirms_117 (by decide) ?_
          have e4 : (cnfI dir places usedNow (settings 3) pp (i + 1) v0) = (cnfI dir places usedNow (settings 3) pp i v0) := by rw [cnfI_s]; unfold cnfS; (first | rw [if_pos c_4] | rw [if_neg c_4]); (first | rw [if_pos c_8] | rw [if_neg c_8]); (first | rw [if_pos c_9] | rw [if_neg c_9])
          have hP : va_P G vwCl (Xx t a K many settings isVoted lotsNow seen keyOne keyTwo votes looked matched without trio takenStar takenAs takenSpot pairs starArms spotArms isTurn places ((cnfI dir places usedNow (settings 3) pp (i + 1) v0).1) ((cnfI dir places usedNow (settings 3) pp (i + 1) v0).2) one usedNow laidMany finding) H := by rw [e4]; exact hP
          exact ih (i + 1) (by omega) (by omega) _ _ _ hP hS (lv_sub hl [3, 4, 5, 0] rfl) hex
        · refine lv_iload hx hb dX0_confirms_83 (lv_at hl 1 rfl) ?_
          refine lv_aload_n hx hb dX0_confirms_85 rfl (lv_at hl 2 rfl) ?_
          refine va_get (D := G) (ci := 0) (C := RX0) (T := TX0) (N := 32) hx hb hts in_X0 hown hK hP 0 xk_this rfl 5 (by decide) (hts _ q638) (fun _ h => h) rfl dX0_confirms_86 ?_
          refine lv_iconst (v := 3) hx hb dX0_confirms_89 (by decide) ?_
          refine r_iald hx hb hK hP 9 0 xk_settings rfl (f := settings) 3 (nI_q 3) (by decide) (by decide) dX0_confirms_90 ?_
          refine lv_icmp_gt (tgt := 114) hx hb dX0_confirms_91 (by decide) (fun c_10 => ?_) (fun c_10 => ?_)
          · have c_10 := Int32.not_le.mpr c_10
            refine lv_iinc (v := nI (i + 1)) (lv' := [(3, .int (nI (i + 1))), (5, .int 0), (4, .int (farX dir places pp i)), (0, .ref (a 0)), (1, .int (nI pp)), (2, .ref (a 50))]) hx hb dX0_confirms_114 hl (k := 5) rfl (iinc_nI rfl) (by decide) rfl (fun ls hl => ?_)
            refine lv_goto (tgt := 16) hx hb dX0_confirms_117 (by decide) ?_
            have e4 : (cnfI dir places usedNow (settings 3) pp (i + 1) v0) = (cnfI dir places usedNow (settings 3) pp i v0) := by rw [cnfI_s]; unfold cnfS; (first | rw [if_pos c_4] | rw [if_neg c_4]); (first | rw [if_pos c_8] | rw [if_neg c_8]); (first | rw [if_pos c_9] | rw [if_neg c_9]); (first | rw [if_pos c_10] | rw [if_neg c_10])
            have hP : va_P G vwCl (Xx t a K many settings isVoted lotsNow seen keyOne keyTwo votes looked matched without trio takenStar takenAs takenSpot pairs starArms spotArms isTurn places ((cnfI dir places usedNow (settings 3) pp (i + 1) v0).1) ((cnfI dir places usedNow (settings 3) pp (i + 1) v0).2) one usedNow laidMany finding) H := by rw [e4]; exact hP
            exact ih (i + 1) (by omega) (by omega) _ _ _ hP hS (lv_sub hl [3, 4, 5, 0] rfl) hex
          · have c_10 := Int32.not_lt.mp c_10
            refine lv_iload hx hb dX0_confirms_94 (lv_at hl 0 rfl) ?_
            refine lv_if_eq (tgt := 114) hx hb dX0_confirms_96 (by decide) (fun c_11 => ?_) (fun c_11 => absurd c_11 (by decide))
            refine lv_iinc (v := nI (i + 1)) (lv' := [(3, .int (nI (i + 1))), (5, .int 0), (4, .int (farX dir places pp i)), (0, .ref (a 0)), (1, .int (nI pp)), (2, .ref (a 50))]) hx hb dX0_confirms_114 hl (k := 5) rfl (iinc_nI rfl) (by decide) rfl (fun ls hl => ?_)
            refine lv_goto (tgt := 16) hx hb dX0_confirms_117 (by decide) ?_
            have e4 : (cnfI dir places usedNow (settings 3) pp (i + 1) v0) = (cnfI dir places usedNow (settings 3) pp i v0) := by rw [cnfI_s]; unfold cnfS; (first | rw [if_pos c_4] | rw [if_neg c_4]); (first | rw [if_pos c_8] | rw [if_neg c_8]); (first | rw [if_pos c_9] | rw [if_neg c_9]); (first | rw [if_pos c_10] | rw [if_neg c_10])
            have hP : va_P G vwCl (Xx t a K many settings isVoted lotsNow seen keyOne keyTwo votes looked matched without trio takenStar takenAs takenSpot pairs starArms spotArms isTurn places ((cnfI dir places usedNow (settings 3) pp (i + 1) v0).1) ((cnfI dir places usedNow (settings 3) pp (i + 1) v0).2) one usedNow laidMany finding) H := by rw [e4]; exact hP
            exact ih (i + 1) (by omega) (by omega) _ _ _ hP hS (lv_sub hl [3, 4, 5, 0] rfl) hex
      · have c_8 := Int32.not_le.mp c_8
        refine lv_iconst (v := 1) hx hb dX0_confirms_70 (by decide) ?_
        refine lv_goto (tgt := 75) hx hb dX0_confirms_71 (by decide) ?_
        refine lv_istore (lv' := [(5, .int 1), (4, .int (farX dir places pp i)), (0, .ref (a 0)), (1, .int (nI pp)), (2, .ref (a 50)), (3, .int (nI i))]) hx hb dX0_confirms_75 hl (by decide) rfl (fun ls hl => ?_)
        refine lv_aload_n hx hb dX0_confirms_77 rfl (lv_at hl 4 rfl) ?_
        refine lv_iload_n hx hb dX0_confirms_78 rfl (lv_at hl 5 rfl) ?_
        refine r_iald hx hb hK hP 50 0 xk_usedNow rfl (f := usedNow) i rfl (by omega) (by decide) dX0_confirms_79 ?_
        refine lv_if_ne (tgt := 114) hx hb dX0_confirms_80 (by decide) (fun c_12 => ?_) (fun c_12 => ?_)
        · refine lv_iinc (v := nI (i + 1)) (lv' := [(3, .int (nI (i + 1))), (5, .int 1), (4, .int (farX dir places pp i)), (0, .ref (a 0)), (1, .int (nI pp)), (2, .ref (a 50))]) hx hb dX0_confirms_114 hl (k := 5) rfl (iinc_nI rfl) (by decide) rfl (fun ls hl => ?_)
          refine lv_goto (tgt := 16) hx hb dX0_confirms_117 (by decide) ?_
          have e4 : (cnfI dir places usedNow (settings 3) pp (i + 1) v0) = (cnfI dir places usedNow (settings 3) pp i v0) := by rw [cnfI_s]; unfold cnfS; (first | rw [if_pos c_4] | rw [if_neg c_4]); (first | rw [if_pos c_8] | rw [if_neg c_8]); (first | rw [if_pos c_12] | rw [if_neg c_12])
          have hP : va_P G vwCl (Xx t a K many settings isVoted lotsNow seen keyOne keyTwo votes looked matched without trio takenStar takenAs takenSpot pairs starArms spotArms isTurn places ((cnfI dir places usedNow (settings 3) pp (i + 1) v0).1) ((cnfI dir places usedNow (settings 3) pp (i + 1) v0).2) one usedNow laidMany finding) H := by rw [e4]; exact hP
          exact ih (i + 1) (by omega) (by omega) _ _ _ hP hS (lv_sub hl [3, 4, 5, 0] rfl) hex
        · refine lv_iload hx hb dX0_confirms_83 (lv_at hl 1 rfl) ?_
          refine lv_aload_n hx hb dX0_confirms_85 rfl (lv_at hl 2 rfl) ?_
          refine va_get (D := G) (ci := 0) (C := RX0) (T := TX0) (N := 32) hx hb hts in_X0 hown hK hP 0 xk_this rfl 5 (by decide) (hts _ q638) (fun _ h => h) rfl dX0_confirms_86 ?_
          refine lv_iconst (v := 3) hx hb dX0_confirms_89 (by decide) ?_
          refine r_iald hx hb hK hP 9 0 xk_settings rfl (f := settings) 3 (nI_q 3) (by decide) (by decide) dX0_confirms_90 ?_
          refine lv_icmp_gt (tgt := 114) hx hb dX0_confirms_91 (by decide) (fun c_13 => ?_) (fun c_13 => ?_)
          · have c_13 := Int32.not_le.mpr c_13
            refine lv_iinc (v := nI (i + 1)) (lv' := [(3, .int (nI (i + 1))), (5, .int 1), (4, .int (farX dir places pp i)), (0, .ref (a 0)), (1, .int (nI pp)), (2, .ref (a 50))]) hx hb dX0_confirms_114 hl (k := 5) rfl (iinc_nI rfl) (by decide) rfl (fun ls hl => ?_)
            refine lv_goto (tgt := 16) hx hb dX0_confirms_117 (by decide) ?_
            have e4 : (cnfI dir places usedNow (settings 3) pp (i + 1) v0) = (cnfI dir places usedNow (settings 3) pp i v0) := by rw [cnfI_s]; unfold cnfS; (first | rw [if_pos c_4] | rw [if_neg c_4]); (first | rw [if_pos c_8] | rw [if_neg c_8]); (first | rw [if_pos c_12] | rw [if_neg c_12]); (first | rw [if_pos c_13] | rw [if_neg c_13])
            have hP : va_P G vwCl (Xx t a K many settings isVoted lotsNow seen keyOne keyTwo votes looked matched without trio takenStar takenAs takenSpot pairs starArms spotArms isTurn places ((cnfI dir places usedNow (settings 3) pp (i + 1) v0).1) ((cnfI dir places usedNow (settings 3) pp (i + 1) v0).2) one usedNow laidMany finding) H := by rw [e4]; exact hP
            exact ih (i + 1) (by omega) (by omega) _ _ _ hP hS (lv_sub hl [3, 4, 5, 0] rfl) hex
          · have c_13 := Int32.not_lt.mp c_13
            refine lv_iload hx hb dX0_confirms_94 (lv_at hl 0 rfl) ?_
            refine lv_if_eq (tgt := 114) hx hb dX0_confirms_96 (by decide) (fun c_14 => absurd c_14 (by decide)) (fun c_14 => ?_)
            refine lv_aload_n hx hb dX0_confirms_99 rfl (lv_at hl 2 rfl) ?_
            refine va_get (D := G) (ci := 0) (C := RX0) (T := TX0) (N := 32) hx hb hts in_X0 hown hK hP 0 xk_this rfl 24 (by decide) (hts _ q657) (fun _ h => h) rfl dX0_confirms_100 ?_
            refine lv_iload_n hx hb dX0_confirms_103 rfl (lv_at hl 3 rfl) ?_
            refine lv_iload_n hx hb dX0_confirms_104 rfl (lv_at hl 5 rfl) ?_
            refine r_iast hx hb hK hP (xD hD) hS 47 0 xk_byStar rfl pp rfl (by omega) (by decide) dX0_confirms_105 (ws' := Xx t a K many settings isVoted lotsNow seen keyOne keyTwo votes looked matched without trio takenStar takenAs takenSpot pairs starArms spotArms isTurn places (upd ((cnfI dir places usedNow (settings 3) pp i v0).1) pp (nI i)) ((cnfI dir places usedNow (settings 3) pp i v0).2) one usedNow laidMany finding) (xs_byStar _) (fun H locs hP hS => ?_)
            refine lv_aload_n hx hb dX0_confirms_106 rfl (lv_at hl 2 rfl) ?_
            refine va_get (D := G) (ci := 0) (C := RX0) (T := TX0) (N := 32) hx hb hts in_X0 hown hK hP 0 xk_this rfl 25 (by decide) (hts _ q658) (fun _ h => h) rfl dX0_confirms_107 ?_
            refine lv_iload_n hx hb dX0_confirms_110 rfl (lv_at hl 3 rfl) ?_
            refine lv_iload hx hb dX0_confirms_111 (lv_at hl 1 rfl) ?_
            refine r_iast hx hb hK hP (xD hD) hS 48 0 xk_byFar rfl pp rfl (by omega) (by decide) dX0_confirms_113 (ws' := Xx t a K many settings isVoted lotsNow seen keyOne keyTwo votes looked matched without trio takenStar takenAs takenSpot pairs starArms spotArms isTurn places (upd ((cnfI dir places usedNow (settings 3) pp i v0).1) pp (nI i)) (upd ((cnfI dir places usedNow (settings 3) pp i v0).2) pp (farX dir places pp i)) one usedNow laidMany finding) (xs_byFar _) (fun H locs hP hS => ?_)
            refine lv_iinc (v := nI (i + 1)) (lv' := [(3, .int (nI (i + 1))), (5, .int 1), (4, .int (farX dir places pp i)), (0, .ref (a 0)), (1, .int (nI pp)), (2, .ref (a 50))]) hx hb dX0_confirms_114 hl (k := 5) rfl (iinc_nI rfl) (by decide) rfl (fun ls hl => ?_)
            refine lv_goto (tgt := 16) hx hb dX0_confirms_117 (by decide) ?_
            have e4 : (cnfI dir places usedNow (settings 3) pp (i + 1) v0) = ((upd ((cnfI dir places usedNow (settings 3) pp i v0).1) pp (nI i)), (upd ((cnfI dir places usedNow (settings 3) pp i v0).2) pp (farX dir places pp i))) := by rw [cnfI_s]; unfold cnfS; (first | rw [if_pos c_4] | rw [if_neg c_4]); (first | rw [if_pos c_8] | rw [if_neg c_8]); (first | rw [if_pos c_12] | rw [if_neg c_12]); (first | rw [if_pos c_13] | rw [if_neg c_13])
            have hP : va_P G vwCl (Xx t a K many settings isVoted lotsNow seen keyOne keyTwo votes looked matched without trio takenStar takenAs takenSpot pairs starArms spotArms isTurn places ((cnfI dir places usedNow (settings 3) pp (i + 1) v0).1) ((cnfI dir places usedNow (settings 3) pp (i + 1) v0).2) one usedNow laidMany finding) H := by rw [e4]; exact hP
            exact ih (i + 1) (by omega) (by omega) _ _ _ hP hS (lv_sub hl [3, 4, 5, 0] rfl) hex

set_option maxHeartbeats 4000000 in
theorem mx_confirms (l : Launch) (G : va_G) (t : Nat → ClassId) (A : Nat → Prop) (a : Nat → Nat) (cs : Nat → ClassId) (K : XK) (many : (Nat → Int32)) (settings : (Nat → Int32)) (isVoted : Int32) (lotsNow : Int32) (seen : (Nat → Int32)) (keyOne : (Nat → Int32)) (keyTwo : (Nat → Int32)) (votes : (Nat → Int32)) (looked : Int32) (matched : Int32) (without : Int32) (trio : (Nat → Int32)) (takenStar : (Nat → Int32)) (takenAs : (Nat → Int32)) (takenSpot : (Nat → Int32)) (pairs : Int32) (starArms : (Nat → Int64)) (spotArms : (Nat → Int64)) (isTurn : Int32) (places : (Nat → Int32)) (byStar : (Nat → Int32)) (byFar : (Nat → Int32)) (one : (Nat → Int64)) (usedNow : (Nat → Int32)) (laidMany : (Nat → Int32)) (finding : Int32) (dir : (Nat → Int32)) (pp : Nat) (hM : Mok many) (hB : BodOk K dir many) (h1 : pp < nK many 1) : Met l yX0_confirms (ws_ yX0_confirms cX0_confirms 6 (none)) (rm_ 0 2 0 0) (va_Pc [.ref (a 0), .int (nI pp), .ref (a 50)] (xPr G t A a cs K.L (Xx t a K many settings isVoted lotsNow seen keyOne keyTwo votes looked matched without trio takenStar takenAs takenSpot pairs starArms spotArms isTurn places byStar byFar one usedNow laidMany finding))) (va_Qv (fun (uv : CX) => uv = cnfP dir places (settings 3) isTurn without (nK many 0) pp (usedNow, byStar, byFar)) (mB G (fun (uv : CX) => Xx t a K many settings isVoted lotsNow seen keyOne keyTwo votes looked matched without trio takenStar takenAs takenSpot pairs starArms spotArms isTurn places uv.2.1 uv.2.2 one uv.1 laidMany finding)) A) 0 0 A := by
  refine mkx_W (by decide) (Nat.le_of_ble_eq_true rfl) ?_
  intro p e s m below meth c ls hx hb hml hr hlk hts hown hnm hv hl
  obtain ⟨hP, hK, hD, hA, hE⟩ := hv
  have hS : va_S A s.heap s.heap [] := va_S.rf
  have hl : lv_has ls 6 [(0, .ref (a 0)), (1, .int (nI pp)), (2, .ref (a 50))] := hl
  have h0 : nK many 0 ≤ 12 := (hM 0 (by omega)).2
  have h8 : nK many 1 ≤ 8 := (hM 1 (by omega)).2
  refine lv_aload_n hx hb dX0_confirms_0 rfl (lv_at hl 0 rfl) ?_
  refine va_get (D := G) (ci := 0) (C := RX0) (T := TX0) (N := 32) hx hb hts in_X0 hown hK hP 0 xk_this rfl 24 (by decide) (hts _ q657) (fun _ h => h) rfl dX0_confirms_1 ?_
  refine lv_iload_n hx hb dX0_confirms_4 rfl (lv_at hl 1 rfl) ?_
  refine lv_iconst (v := (-1)) hx hb dX0_confirms_5 (by decide) ?_
  refine r_iast hx hb hK hP (xD hD) hS 47 0 xk_byStar rfl pp rfl (by omega) (by decide) dX0_confirms_6 (ws' := Xx t a K many settings isVoted lotsNow seen keyOne keyTwo votes looked matched without trio takenStar takenAs takenSpot pairs starArms spotArms isTurn places (upd byStar pp (-1)) byFar one usedNow laidMany finding) (xs_byStar _) (fun H locs hP hS => ?_)
  refine lv_aload_n hx hb dX0_confirms_7 rfl (lv_at hl 0 rfl) ?_
  refine va_get (D := G) (ci := 0) (C := RX0) (T := TX0) (N := 32) hx hb hts in_X0 hown hK hP 0 xk_this rfl 25 (by decide) (hts _ q658) (fun _ h => h) rfl dX0_confirms_8 ?_
  refine lv_iload_n hx hb dX0_confirms_11 rfl (lv_at hl 1 rfl) ?_
  refine lv_iconst (v := (-1)) hx hb dX0_confirms_12 (by decide) ?_
  refine r_iast hx hb hK hP (xD hD) hS 48 0 xk_byFar rfl pp rfl (by omega) (by decide) dX0_confirms_13 (ws' := Xx t a K many settings isVoted lotsNow seen keyOne keyTwo votes looked matched without trio takenStar takenAs takenSpot pairs starArms spotArms isTurn places (upd byStar pp (-1)) (upd byFar pp (-1)) one usedNow laidMany finding) (xs_byFar _) (fun H locs hP hS => ?_)
  refine lv_iconst (v := 0) hx hb dX0_confirms_14 (by decide) ?_
  refine lv_istore_n (lv' := [(3, .int 0), (0, .ref (a 0)), (1, .int (nI pp)), (2, .ref (a 50))]) hx hb dX0_confirms_15 rfl hl (by decide) rfl (fun ls hl => ?_)
  by_cases hok : okX isTurn without pp
  · have hP : va_P G vwCl (Xx t a K many settings isVoted lotsNow seen keyOne keyTwo votes looked matched without trio takenStar takenAs takenSpot pairs starArms spotArms isTurn places ((cnfI dir places usedNow (settings 3) pp 0 ((upd byStar pp (-1)), (upd byFar pp (-1)))).1) ((cnfI dir places usedNow (settings 3) pp 0 ((upd byStar pp (-1)), (upd byFar pp (-1)))).2) one usedNow laidMany finding) H := by rw [cnfI_0]; exact hP
    refine lx_conf G t A a cs K many settings isVoted lotsNow seen keyOne keyTwo votes looked matched without trio takenStar takenAs takenSpot pairs starArms spotArms isTurn places one usedNow laidMany finding ((upd byStar pp (-1)), (upd byFar pp (-1))) dir pp hM hB (by omega) (by omega) (by omega) hok hx hb hml hown hts hK hD hA hE ((nK many 0) - 0) 0 (by omega) (by omega) _ _ _ hP hS (lv_sub hl [1, 2, 3, 0] rfl) (fun H locs ls hP hS hl => ?_)
    have eJ : (cnfJ dir places usedNow (settings 3) isTurn without (nK many 0) pp (byStar, byFar)) = (cnfI dir places usedNow (settings 3) pp (nK many 0) ((upd byStar pp (-1)), (upd byFar pp (-1)))) := by unfold cnfJ; rw [if_pos hok]
    have hP : va_P G vwCl (Xx t a K many settings isVoted lotsNow seen keyOne keyTwo votes looked matched without trio takenStar takenAs takenSpot pairs starArms spotArms isTurn places ((cnfJ dir places usedNow (settings 3) isTurn without (nK many 0) pp (byStar, byFar)).1) ((cnfJ dir places usedNow (settings 3) isTurn without (nK many 0) pp (byStar, byFar)).2) one usedNow laidMany finding) H := by rw [eJ]; exact hP
    refine lv_aload_n hx hb dX0_confirms_120 rfl (lv_at hl 0 rfl) ?_
    refine va_get (D := G) (ci := 0) (C := RX0) (T := TX0) (N := 32) hx hb hts in_X0 hown hK hP 0 xk_this rfl 24 (by decide) (hts _ q657) (fun _ h => h) rfl dX0_confirms_121 ?_
    refine lv_iload_n hx hb dX0_confirms_124 rfl (lv_at hl 1 rfl) ?_
    refine r_iald hx hb hK hP 47 0 xk_byStar rfl (f := (cnfJ dir places usedNow (settings 3) isTurn without (nK many 0) pp (byStar, byFar)).1) pp rfl (by omega) (by decide) dX0_confirms_125 ?_
    refine lv_iconst (v := (-1)) hx hb dX0_confirms_126 (by decide) ?_
    refine lv_icmp_eq (tgt := 139) hx hb dX0_confirms_127 (by decide) (fun c_1 => ?_) (fun c_1 => ?_)
    · have hP : va_P G vwCl (Xx t a K many settings isVoted lotsNow seen keyOne keyTwo votes looked matched without trio takenStar takenAs takenSpot pairs starArms spotArms isTurn places ((cnfP dir places (settings 3) isTurn without (nK many 0) pp (usedNow, byStar, byFar)).2.1) ((cnfP dir places (settings 3) isTurn without (nK many 0) pp (usedNow, byStar, byFar)).2.2) one ((cnfP dir places (settings 3) isTurn without (nK many 0) pp (usedNow, byStar, byFar)).1) laidMany finding) H := by (unfold cnfP; rw [if_pos c_1]; exact hP)
      exact W.vret hx hb hr (fun tt ht _ => ⟨⟨(cnfP dir places (settings 3) isTurn without (nK many 0) pp (usedNow, byStar, byFar)), rfl, rfl, (show va_P G vwCl ((fun (uv : CX) => Xx t a K many settings isVoted lotsNow seen keyOne keyTwo votes looked matched without trio takenStar takenAs takenSpot pairs starArms spotArms isTurn places uv.2.1 uv.2.2 one uv.1 laidMany finding) (cnfP dir places (settings 3) isTurn without (nK many 0) pp (usedNow, byStar, byFar))) tt.heap from by rw [ht]; exact hP)⟩, hS.F ht⟩) hS.2.2 dX0_confirms_139 hlk
    · obtain ⟨j9, hj9, ej9⟩ : ∃ j : Nat, j < nK many 0 ∧ (cnfJ dir places usedNow (settings 3) isTurn without (nK many 0) pp (byStar, byFar)).1 pp = nI j := (cnfJ_ok dir places usedNow (settings 3) isTurn without (nK many 0) pp (byStar, byFar)).resolve_left c_1
      have en9 : ((cnfJ dir places usedNow (settings 3) isTurn without (nK many 0) pp (byStar, byFar)).1 pp).toNatClampNeg = j9 := by rw [ej9]; exact tn_nI (by omega)
      refine lv_aload_n hx hb dX0_confirms_130 rfl (lv_at hl 2 rfl) ?_
      refine lv_aload_n hx hb dX0_confirms_131 rfl (lv_at hl 0 rfl) ?_
      refine va_get (D := G) (ci := 0) (C := RX0) (T := TX0) (N := 32) hx hb hts in_X0 hown hK hP 0 xk_this rfl 24 (by decide) (hts _ q657) (fun _ h => h) rfl dX0_confirms_132 ?_
      refine lv_iload_n hx hb dX0_confirms_135 rfl (lv_at hl 1 rfl) ?_
      refine r_iald hx hb hK hP 47 0 xk_byStar rfl (f := (cnfJ dir places usedNow (settings 3) isTurn without (nK many 0) pp (byStar, byFar)).1) pp rfl (by omega) (by decide) dX0_confirms_136 ?_
      refine lv_iconst (v := 1) hx hb dX0_confirms_137 (by decide) ?_
      refine r_iast hx hb hK hP (xD hD) hS 50 0 xk_usedNow rfl j9 ej9 (by omega) (by decide) dX0_confirms_138 (ws' := Xx t a K many settings isVoted lotsNow seen keyOne keyTwo votes looked matched without trio takenStar takenAs takenSpot pairs starArms spotArms isTurn places ((cnfJ dir places usedNow (settings 3) isTurn without (nK many 0) pp (byStar, byFar)).1) ((cnfJ dir places usedNow (settings 3) isTurn without (nK many 0) pp (byStar, byFar)).2) one (upd usedNow j9 1) laidMany finding) (xs_usedNow _) (fun H locs hP hS => ?_)
      have hP : va_P G vwCl (Xx t a K many settings isVoted lotsNow seen keyOne keyTwo votes looked matched without trio takenStar takenAs takenSpot pairs starArms spotArms isTurn places ((cnfP dir places (settings 3) isTurn without (nK many 0) pp (usedNow, byStar, byFar)).2.1) ((cnfP dir places (settings 3) isTurn without (nK many 0) pp (usedNow, byStar, byFar)).2.2) one ((cnfP dir places (settings 3) isTurn without (nK many 0) pp (usedNow, byStar, byFar)).1) laidMany finding) H := by (unfold cnfP; rw [if_neg c_1, en9]; exact hP)
      exact W.vret hx hb hr (fun tt ht _ => ⟨⟨(cnfP dir places (settings 3) isTurn without (nK many 0) pp (usedNow, byStar, byFar)), rfl, rfl, (show va_P G vwCl ((fun (uv : CX) => Xx t a K many settings isVoted lotsNow seen keyOne keyTwo votes looked matched without trio takenStar takenAs takenSpot pairs starArms spotArms isTurn places uv.2.1 uv.2.2 one uv.1 laidMany finding) (cnfP dir places (settings 3) isTurn without (nK many 0) pp (usedNow, byStar, byFar))) tt.heap from by rw [ht]; exact hP)⟩, hS.F ht⟩) hS.2.2 dX0_confirms_139 hlk
  · refine lv_iload_n hx hb dX0_confirms_16 rfl (lv_at hl 0 rfl) ?_
    refine lv_aload_n hx hb dX0_confirms_17 rfl (lv_at hl 1 rfl) ?_
    refine va_get (D := G) (ci := 0) (C := RX0) (T := TX0) (N := 32) hx hb hts in_X0 hown hK hP 0 xk_this rfl 4 (by decide) (hts _ q637) (fun _ h => h) rfl dX0_confirms_18 ?_
    refine lv_iconst (v := 0) hx hb dX0_confirms_21 (by decide) ?_
    refine r_iald hx hb hK hP 8 0 xk_many rfl (f := many) 0 (nI_q 0) (by decide) (by decide) dX0_confirms_22 ?_
    refine rn_ge (tgt := 120) hx hb dX0_confirms_23 (by decide) (nI_q 0) (hM 0 (by omega)).1 (by omega) (by omega) (fun c_2 => ?_) (fun c_2 => ?_)
    · have eJ : (cnfJ dir places usedNow (settings 3) isTurn without (nK many 0) pp (byStar, byFar)) = ((upd byStar pp (-1)), (upd byFar pp (-1))) := by unfold cnfJ; rw [if_neg hok]
      have hP : va_P G vwCl (Xx t a K many settings isVoted lotsNow seen keyOne keyTwo votes looked matched without trio takenStar takenAs takenSpot pairs starArms spotArms isTurn places ((cnfJ dir places usedNow (settings 3) isTurn without (nK many 0) pp (byStar, byFar)).1) ((cnfJ dir places usedNow (settings 3) isTurn without (nK many 0) pp (byStar, byFar)).2) one usedNow laidMany finding) H := by rw [eJ]; exact hP
      refine lv_aload_n hx hb dX0_confirms_120 rfl (lv_at hl 1 rfl) ?_
      refine va_get (D := G) (ci := 0) (C := RX0) (T := TX0) (N := 32) hx hb hts in_X0 hown hK hP 0 xk_this rfl 24 (by decide) (hts _ q657) (fun _ h => h) rfl dX0_confirms_121 ?_
      refine lv_iload_n hx hb dX0_confirms_124 rfl (lv_at hl 2 rfl) ?_
      refine r_iald hx hb hK hP 47 0 xk_byStar rfl (f := (cnfJ dir places usedNow (settings 3) isTurn without (nK many 0) pp (byStar, byFar)).1) pp rfl (by omega) (by decide) dX0_confirms_125 ?_
      refine lv_iconst (v := (-1)) hx hb dX0_confirms_126 (by decide) ?_
      refine lv_icmp_eq (tgt := 139) hx hb dX0_confirms_127 (by decide) (fun c_3 => ?_) (fun c_3 => ?_)
      · have hP : va_P G vwCl (Xx t a K many settings isVoted lotsNow seen keyOne keyTwo votes looked matched without trio takenStar takenAs takenSpot pairs starArms spotArms isTurn places ((cnfP dir places (settings 3) isTurn without (nK many 0) pp (usedNow, byStar, byFar)).2.1) ((cnfP dir places (settings 3) isTurn without (nK many 0) pp (usedNow, byStar, byFar)).2.2) one ((cnfP dir places (settings 3) isTurn without (nK many 0) pp (usedNow, byStar, byFar)).1) laidMany finding) H := by (unfold cnfP; rw [if_pos c_3]; exact hP)
        exact W.vret hx hb hr (fun tt ht _ => ⟨⟨(cnfP dir places (settings 3) isTurn without (nK many 0) pp (usedNow, byStar, byFar)), rfl, rfl, (show va_P G vwCl ((fun (uv : CX) => Xx t a K many settings isVoted lotsNow seen keyOne keyTwo votes looked matched without trio takenStar takenAs takenSpot pairs starArms spotArms isTurn places uv.2.1 uv.2.2 one uv.1 laidMany finding) (cnfP dir places (settings 3) isTurn without (nK many 0) pp (usedNow, byStar, byFar))) tt.heap from by rw [ht]; exact hP)⟩, hS.F ht⟩) hS.2.2 dX0_confirms_139 hlk
      · obtain ⟨j9, hj9, ej9⟩ : ∃ j : Nat, j < nK many 0 ∧ (cnfJ dir places usedNow (settings 3) isTurn without (nK many 0) pp (byStar, byFar)).1 pp = nI j := (cnfJ_ok dir places usedNow (settings 3) isTurn without (nK many 0) pp (byStar, byFar)).resolve_left c_3
        have en9 : ((cnfJ dir places usedNow (settings 3) isTurn without (nK many 0) pp (byStar, byFar)).1 pp).toNatClampNeg = j9 := by rw [ej9]; exact tn_nI (by omega)
        refine lv_aload_n hx hb dX0_confirms_130 rfl (lv_at hl 3 rfl) ?_
        refine lv_aload_n hx hb dX0_confirms_131 rfl (lv_at hl 1 rfl) ?_
        refine va_get (D := G) (ci := 0) (C := RX0) (T := TX0) (N := 32) hx hb hts in_X0 hown hK hP 0 xk_this rfl 24 (by decide) (hts _ q657) (fun _ h => h) rfl dX0_confirms_132 ?_
        refine lv_iload_n hx hb dX0_confirms_135 rfl (lv_at hl 2 rfl) ?_
        refine r_iald hx hb hK hP 47 0 xk_byStar rfl (f := (cnfJ dir places usedNow (settings 3) isTurn without (nK many 0) pp (byStar, byFar)).1) pp rfl (by omega) (by decide) dX0_confirms_136 ?_
        refine lv_iconst (v := 1) hx hb dX0_confirms_137 (by decide) ?_
        refine r_iast hx hb hK hP (xD hD) hS 50 0 xk_usedNow rfl j9 ej9 (by omega) (by decide) dX0_confirms_138 (ws' := Xx t a K many settings isVoted lotsNow seen keyOne keyTwo votes looked matched without trio takenStar takenAs takenSpot pairs starArms spotArms isTurn places ((cnfJ dir places usedNow (settings 3) isTurn without (nK many 0) pp (byStar, byFar)).1) ((cnfJ dir places usedNow (settings 3) isTurn without (nK many 0) pp (byStar, byFar)).2) one (upd usedNow j9 1) laidMany finding) (xs_usedNow _) (fun H locs hP hS => ?_)
        have hP : va_P G vwCl (Xx t a K many settings isVoted lotsNow seen keyOne keyTwo votes looked matched without trio takenStar takenAs takenSpot pairs starArms spotArms isTurn places ((cnfP dir places (settings 3) isTurn without (nK many 0) pp (usedNow, byStar, byFar)).2.1) ((cnfP dir places (settings 3) isTurn without (nK many 0) pp (usedNow, byStar, byFar)).2.2) one ((cnfP dir places (settings 3) isTurn without (nK many 0) pp (usedNow, byStar, byFar)).1) laidMany finding) H := by (unfold cnfP; rw [if_neg c_3, en9]; exact hP)
        exact W.vret hx hb hr (fun tt ht _ => ⟨⟨(cnfP dir places (settings 3) isTurn without (nK many 0) pp (usedNow, byStar, byFar)), rfl, rfl, (show va_P G vwCl ((fun (uv : CX) => Xx t a K many settings isVoted lotsNow seen keyOne keyTwo votes looked matched without trio takenStar takenAs takenSpot pairs starArms spotArms isTurn places uv.2.1 uv.2.2 one uv.1 laidMany finding) (cnfP dir places (settings 3) isTurn without (nK many 0) pp (usedNow, byStar, byFar))) tt.heap from by rw [ht]; exact hP)⟩, hS.F ht⟩) hS.2.2 dX0_confirms_139 hlk
    · refine lv_aload_n hx hb dX0_confirms_26 rfl (lv_at hl 1 rfl) ?_
      refine va_get (D := G) (ci := 0) (C := RX0) (T := TX0) (N := 32) hx hb hts in_X0 hown hK hP 0 xk_this rfl 22 (by decide) (hts _ q655) (fun _ h => h) rfl dX0_confirms_27 ?_
      refine lv_if_eq (tgt := 120) hx hb dX0_confirms_30 (by decide) (fun c_4 => ?_) (fun c_4 => ?_)
      · have eJ : (cnfJ dir places usedNow (settings 3) isTurn without (nK many 0) pp (byStar, byFar)) = ((upd byStar pp (-1)), (upd byFar pp (-1))) := by unfold cnfJ; rw [if_neg hok]
        have hP : va_P G vwCl (Xx t a K many settings isVoted lotsNow seen keyOne keyTwo votes looked matched without trio takenStar takenAs takenSpot pairs starArms spotArms isTurn places ((cnfJ dir places usedNow (settings 3) isTurn without (nK many 0) pp (byStar, byFar)).1) ((cnfJ dir places usedNow (settings 3) isTurn without (nK many 0) pp (byStar, byFar)).2) one usedNow laidMany finding) H := by rw [eJ]; exact hP
        refine lv_aload_n hx hb dX0_confirms_120 rfl (lv_at hl 1 rfl) ?_
        refine va_get (D := G) (ci := 0) (C := RX0) (T := TX0) (N := 32) hx hb hts in_X0 hown hK hP 0 xk_this rfl 24 (by decide) (hts _ q657) (fun _ h => h) rfl dX0_confirms_121 ?_
        refine lv_iload_n hx hb dX0_confirms_124 rfl (lv_at hl 2 rfl) ?_
        refine r_iald hx hb hK hP 47 0 xk_byStar rfl (f := (cnfJ dir places usedNow (settings 3) isTurn without (nK many 0) pp (byStar, byFar)).1) pp rfl (by omega) (by decide) dX0_confirms_125 ?_
        refine lv_iconst (v := (-1)) hx hb dX0_confirms_126 (by decide) ?_
        refine lv_icmp_eq (tgt := 139) hx hb dX0_confirms_127 (by decide) (fun c_5 => ?_) (fun c_5 => ?_)
        · have hP : va_P G vwCl (Xx t a K many settings isVoted lotsNow seen keyOne keyTwo votes looked matched without trio takenStar takenAs takenSpot pairs starArms spotArms isTurn places ((cnfP dir places (settings 3) isTurn without (nK many 0) pp (usedNow, byStar, byFar)).2.1) ((cnfP dir places (settings 3) isTurn without (nK many 0) pp (usedNow, byStar, byFar)).2.2) one ((cnfP dir places (settings 3) isTurn without (nK many 0) pp (usedNow, byStar, byFar)).1) laidMany finding) H := by (unfold cnfP; rw [if_pos c_5]; exact hP)
          exact W.vret hx hb hr (fun tt ht _ => ⟨⟨(cnfP dir places (settings 3) isTurn without (nK many 0) pp (usedNow, byStar, byFar)), rfl, rfl, (show va_P G vwCl ((fun (uv : CX) => Xx t a K many settings isVoted lotsNow seen keyOne keyTwo votes looked matched without trio takenStar takenAs takenSpot pairs starArms spotArms isTurn places uv.2.1 uv.2.2 one uv.1 laidMany finding) (cnfP dir places (settings 3) isTurn without (nK many 0) pp (usedNow, byStar, byFar))) tt.heap from by rw [ht]; exact hP)⟩, hS.F ht⟩) hS.2.2 dX0_confirms_139 hlk
        · obtain ⟨j9, hj9, ej9⟩ : ∃ j : Nat, j < nK many 0 ∧ (cnfJ dir places usedNow (settings 3) isTurn without (nK many 0) pp (byStar, byFar)).1 pp = nI j := (cnfJ_ok dir places usedNow (settings 3) isTurn without (nK many 0) pp (byStar, byFar)).resolve_left c_5
          have en9 : ((cnfJ dir places usedNow (settings 3) isTurn without (nK many 0) pp (byStar, byFar)).1 pp).toNatClampNeg = j9 := by rw [ej9]; exact tn_nI (by omega)
          refine lv_aload_n hx hb dX0_confirms_130 rfl (lv_at hl 3 rfl) ?_
          refine lv_aload_n hx hb dX0_confirms_131 rfl (lv_at hl 1 rfl) ?_
          refine va_get (D := G) (ci := 0) (C := RX0) (T := TX0) (N := 32) hx hb hts in_X0 hown hK hP 0 xk_this rfl 24 (by decide) (hts _ q657) (fun _ h => h) rfl dX0_confirms_132 ?_
          refine lv_iload_n hx hb dX0_confirms_135 rfl (lv_at hl 2 rfl) ?_
          refine r_iald hx hb hK hP 47 0 xk_byStar rfl (f := (cnfJ dir places usedNow (settings 3) isTurn without (nK many 0) pp (byStar, byFar)).1) pp rfl (by omega) (by decide) dX0_confirms_136 ?_
          refine lv_iconst (v := 1) hx hb dX0_confirms_137 (by decide) ?_
          refine r_iast hx hb hK hP (xD hD) hS 50 0 xk_usedNow rfl j9 ej9 (by omega) (by decide) dX0_confirms_138 (ws' := Xx t a K many settings isVoted lotsNow seen keyOne keyTwo votes looked matched without trio takenStar takenAs takenSpot pairs starArms spotArms isTurn places ((cnfJ dir places usedNow (settings 3) isTurn without (nK many 0) pp (byStar, byFar)).1) ((cnfJ dir places usedNow (settings 3) isTurn without (nK many 0) pp (byStar, byFar)).2) one (upd usedNow j9 1) laidMany finding) (xs_usedNow _) (fun H locs hP hS => ?_)
          have hP : va_P G vwCl (Xx t a K many settings isVoted lotsNow seen keyOne keyTwo votes looked matched without trio takenStar takenAs takenSpot pairs starArms spotArms isTurn places ((cnfP dir places (settings 3) isTurn without (nK many 0) pp (usedNow, byStar, byFar)).2.1) ((cnfP dir places (settings 3) isTurn without (nK many 0) pp (usedNow, byStar, byFar)).2.2) one ((cnfP dir places (settings 3) isTurn without (nK many 0) pp (usedNow, byStar, byFar)).1) laidMany finding) H := by (unfold cnfP; rw [if_neg c_5, en9]; exact hP)
          exact W.vret hx hb hr (fun tt ht _ => ⟨⟨(cnfP dir places (settings 3) isTurn without (nK many 0) pp (usedNow, byStar, byFar)), rfl, rfl, (show va_P G vwCl ((fun (uv : CX) => Xx t a K many settings isVoted lotsNow seen keyOne keyTwo votes looked matched without trio takenStar takenAs takenSpot pairs starArms spotArms isTurn places uv.2.1 uv.2.2 one uv.1 laidMany finding) (cnfP dir places (settings 3) isTurn without (nK many 0) pp (usedNow, byStar, byFar))) tt.heap from by rw [ht]; exact hP)⟩, hS.F ht⟩) hS.2.2 dX0_confirms_139 hlk
      · refine lv_iload_n hx hb dX0_confirms_33 rfl (lv_at hl 2 rfl) ?_
        refine lv_aload_n hx hb dX0_confirms_34 rfl (lv_at hl 1 rfl) ?_
        refine va_get (D := G) (ci := 0) (C := RX0) (T := TX0) (N := 32) hx hb hts in_X0 hown hK hP 0 xk_this rfl 14 (by decide) (hts _ q647) (fun _ h => h) rfl dX0_confirms_35 ?_
        refine lv_icmp_eq (tgt := 120) hx hb dX0_confirms_38 (by decide) (fun c_6 => ?_) (fun c_6 => (hok ⟨c_4, c_6⟩).elim)
        have eJ : (cnfJ dir places usedNow (settings 3) isTurn without (nK many 0) pp (byStar, byFar)) = ((upd byStar pp (-1)), (upd byFar pp (-1))) := by unfold cnfJ; rw [if_neg hok]
        have hP : va_P G vwCl (Xx t a K many settings isVoted lotsNow seen keyOne keyTwo votes looked matched without trio takenStar takenAs takenSpot pairs starArms spotArms isTurn places ((cnfJ dir places usedNow (settings 3) isTurn without (nK many 0) pp (byStar, byFar)).1) ((cnfJ dir places usedNow (settings 3) isTurn without (nK many 0) pp (byStar, byFar)).2) one usedNow laidMany finding) H := by rw [eJ]; exact hP
        refine lv_aload_n hx hb dX0_confirms_120 rfl (lv_at hl 1 rfl) ?_
        refine va_get (D := G) (ci := 0) (C := RX0) (T := TX0) (N := 32) hx hb hts in_X0 hown hK hP 0 xk_this rfl 24 (by decide) (hts _ q657) (fun _ h => h) rfl dX0_confirms_121 ?_
        refine lv_iload_n hx hb dX0_confirms_124 rfl (lv_at hl 2 rfl) ?_
        refine r_iald hx hb hK hP 47 0 xk_byStar rfl (f := (cnfJ dir places usedNow (settings 3) isTurn without (nK many 0) pp (byStar, byFar)).1) pp rfl (by omega) (by decide) dX0_confirms_125 ?_
        refine lv_iconst (v := (-1)) hx hb dX0_confirms_126 (by decide) ?_
        refine lv_icmp_eq (tgt := 139) hx hb dX0_confirms_127 (by decide) (fun c_7 => ?_) (fun c_7 => ?_)
        · have hP : va_P G vwCl (Xx t a K many settings isVoted lotsNow seen keyOne keyTwo votes looked matched without trio takenStar takenAs takenSpot pairs starArms spotArms isTurn places ((cnfP dir places (settings 3) isTurn without (nK many 0) pp (usedNow, byStar, byFar)).2.1) ((cnfP dir places (settings 3) isTurn without (nK many 0) pp (usedNow, byStar, byFar)).2.2) one ((cnfP dir places (settings 3) isTurn without (nK many 0) pp (usedNow, byStar, byFar)).1) laidMany finding) H := by (unfold cnfP; rw [if_pos c_7]; exact hP)
          exact W.vret hx hb hr (fun tt ht _ => ⟨⟨(cnfP dir places (settings 3) isTurn without (nK many 0) pp (usedNow, byStar, byFar)), rfl, rfl, (show va_P G vwCl ((fun (uv : CX) => Xx t a K many settings isVoted lotsNow seen keyOne keyTwo votes looked matched without trio takenStar takenAs takenSpot pairs starArms spotArms isTurn places uv.2.1 uv.2.2 one uv.1 laidMany finding) (cnfP dir places (settings 3) isTurn without (nK many 0) pp (usedNow, byStar, byFar))) tt.heap from by rw [ht]; exact hP)⟩, hS.F ht⟩) hS.2.2 dX0_confirms_139 hlk
        · obtain ⟨j9, hj9, ej9⟩ : ∃ j : Nat, j < nK many 0 ∧ (cnfJ dir places usedNow (settings 3) isTurn without (nK many 0) pp (byStar, byFar)).1 pp = nI j := (cnfJ_ok dir places usedNow (settings 3) isTurn without (nK many 0) pp (byStar, byFar)).resolve_left c_7
          have en9 : ((cnfJ dir places usedNow (settings 3) isTurn without (nK many 0) pp (byStar, byFar)).1 pp).toNatClampNeg = j9 := by rw [ej9]; exact tn_nI (by omega)
          refine lv_aload_n hx hb dX0_confirms_130 rfl (lv_at hl 3 rfl) ?_
          refine lv_aload_n hx hb dX0_confirms_131 rfl (lv_at hl 1 rfl) ?_
          refine va_get (D := G) (ci := 0) (C := RX0) (T := TX0) (N := 32) hx hb hts in_X0 hown hK hP 0 xk_this rfl 24 (by decide) (hts _ q657) (fun _ h => h) rfl dX0_confirms_132 ?_
          refine lv_iload_n hx hb dX0_confirms_135 rfl (lv_at hl 2 rfl) ?_
          refine r_iald hx hb hK hP 47 0 xk_byStar rfl (f := (cnfJ dir places usedNow (settings 3) isTurn without (nK many 0) pp (byStar, byFar)).1) pp rfl (by omega) (by decide) dX0_confirms_136 ?_
          refine lv_iconst (v := 1) hx hb dX0_confirms_137 (by decide) ?_
          refine r_iast hx hb hK hP (xD hD) hS 50 0 xk_usedNow rfl j9 ej9 (by omega) (by decide) dX0_confirms_138 (ws' := Xx t a K many settings isVoted lotsNow seen keyOne keyTwo votes looked matched without trio takenStar takenAs takenSpot pairs starArms spotArms isTurn places ((cnfJ dir places usedNow (settings 3) isTurn without (nK many 0) pp (byStar, byFar)).1) ((cnfJ dir places usedNow (settings 3) isTurn without (nK many 0) pp (byStar, byFar)).2) one (upd usedNow j9 1) laidMany finding) (xs_usedNow _) (fun H locs hP hS => ?_)
          have hP : va_P G vwCl (Xx t a K many settings isVoted lotsNow seen keyOne keyTwo votes looked matched without trio takenStar takenAs takenSpot pairs starArms spotArms isTurn places ((cnfP dir places (settings 3) isTurn without (nK many 0) pp (usedNow, byStar, byFar)).2.1) ((cnfP dir places (settings 3) isTurn without (nK many 0) pp (usedNow, byStar, byFar)).2.2) one ((cnfP dir places (settings 3) isTurn without (nK many 0) pp (usedNow, byStar, byFar)).1) laidMany finding) H := by (unfold cnfP; rw [if_neg c_7, en9]; exact hP)
          exact W.vret hx hb hr (fun tt ht _ => ⟨⟨(cnfP dir places (settings 3) isTurn without (nK many 0) pp (usedNow, byStar, byFar)), rfl, rfl, (show va_P G vwCl ((fun (uv : CX) => Xx t a K many settings isVoted lotsNow seen keyOne keyTwo votes looked matched without trio takenStar takenAs takenSpot pairs starArms spotArms isTurn places uv.2.1 uv.2.2 one uv.1 laidMany finding) (cnfP dir places (settings 3) isTurn without (nK many 0) pp (usedNow, byStar, byFar))) tt.heap from by rw [ht]; exact hP)⟩, hS.F ht⟩) hS.2.2 dX0_confirms_139 hlk

set_option maxHeartbeats 4000000 in
theorem lx_solZ {p : Program} {l : Launch} {e : Env} {s : State} {m : MethodId} {args : Array Value} {below : List Frame} {meth : Method} {c : Code} {Q : State → Prop} {H0 : Heap} (G : va_G) (t : Nat → ClassId) (A : Nat → Prop) (a : Nat → Nat) (cs : Nat → ClassId) (K : XK) (many : (Nat → Int32)) (settings : (Nat → Int32)) (isVoted : Int32) (lotsNow : Int32) (seen : (Nat → Int32)) (keyOne : (Nat → Int32)) (keyTwo : (Nat → Int32)) (votes : (Nat → Int32)) (looked : Int32) (matched : Int32) (without : Int32) (trio : (Nat → Int32)) (takenStar : (Nat → Int32)) (takenAs : (Nat → Int32)) (takenSpot : (Nat → Int32)) (pairs : Int32) (starArms : (Nat → Int64)) (spotArms : (Nat → Int64)) (isTurn : Int32) (places : (Nat → Int32)) (byStar : (Nat → Int32)) (byFar : (Nat → Int32)) (one : (Nat → Int64)) (usedNow : (Nat → Int32)) (laidMany : (Nat → Int32)) (finding : Int32) (dir : (Nat → Int32)) (tol : Int32) (hx : p.tables.exec = Jvm.exec) (hb : c.code = cX0_solvesBy) (hml : c.maxLocals = 3) (hown : s.vm.findClass RX0 = some m.cls) (hts : ∀ w ∈ lw_all, w.before args s = true) (hK : va_K G vwCl (Tys t) s) (hD : XD A a K.L) (hA : ∀ q, H0.size ≤ q → A q) (hE : xE A a cs s H0) : ∀ (n i : Nat), 0 ≤ i → i + n = 12 → ∀ (H : Heap) (locs : List Loc) (ls : Array Slot), va_P G vwCl (Xx t a K many settings isVoted lotsNow seen keyOne keyTwo votes looked matched without trio takenStar takenAs takenSpot pairs starArms spotArms isTurn places byStar byFar one (zerosF i usedNow) laidMany finding) H → va_S A H0 H locs → lv_has ls 3 [(0, .ref (a 0)), (1, .int tol), (2, .int (nI i))] → (∀ (H : Heap) (locs : List Loc) (ls : Array Slot), va_P G vwCl (Xx t a K many settings isVoted lotsNow seen keyOne keyTwo votes looked matched without trio takenStar takenAs takenSpot pairs starArms spotArms isTurn places byStar byFar one (zerosF 12 usedNow) laidMany finding) H → va_S A H0 H locs → lv_has ls 3 [(0, .ref (a 0)), (1, .int tol), (2, .int (nI 12))] → W p l e (rm_ 3200 8 1 1) s m args below meth c H locs 1 1 Q (F0 m 34 ls [])) → W p l e (rm_ 3200 8 1 1) s m args below meth c H locs 1 1 Q (F0 m 15 ls []) := by
  intro n
  induction n with
  | zero =>
    intro i hlo hi H locs ls hP hS hl hex
    have hie : i = 12 := by omega
    subst hie
    refine lv_iload_n hx hb dX0_solvesBy_15 rfl (lv_at hl 2 rfl) ?_
    refine lv_bipush (v := 12) hx hb dX0_solvesBy_16 (by decide) ?_
    refine rn_ge (tgt := 34) hx hb dX0_solvesBy_18 (by decide) rfl (nI_q 12) (by omega) (by omega) (fun c_1 => ?_) (fun c_1 => absurd c_1 (by omega))
    exact hex _ _ _ hP hS (lv_sub hl [0, 1, 2] rfl)
  | succ n ih =>
    intro i hlo hi H locs ls hP hS hl hex
    have hlt : i < 12 := by omega
    refine lv_iload_n hx hb dX0_solvesBy_15 rfl (lv_at hl 2 rfl) ?_
    refine lv_bipush (v := 12) hx hb dX0_solvesBy_16 (by decide) ?_
    refine rn_ge (tgt := 34) hx hb dX0_solvesBy_18 (by decide) rfl (nI_q 12) (by omega) (by omega) (fun c_1 => absurd c_1 (by omega)) (fun c_1 => ?_)
    refine lv_aload_n hx hb dX0_solvesBy_21 rfl (lv_at hl 0 rfl) ?_
    refine va_get (D := G) (ci := 0) (C := RX0) (T := TX0) (N := 32) hx hb hts in_X0 hown hK hP 0 xk_this rfl 27 (by decide) (hts _ q660) (fun _ h => h) rfl dX0_solvesBy_22 ?_
    refine lv_iload_n hx hb dX0_solvesBy_25 rfl (lv_at hl 2 rfl) ?_
    refine lv_iconst (v := 0) hx hb dX0_solvesBy_26 (by decide) ?_
    refine r_iast hx hb hK hP (xD hD) hS 50 0 xk_usedNow rfl i rfl (by omega) (by decide) dX0_solvesBy_27 (ws' := Xx t a K many settings isVoted lotsNow seen keyOne keyTwo votes looked matched without trio takenStar takenAs takenSpot pairs starArms spotArms isTurn places byStar byFar one (upd (zerosF i usedNow) i 0) laidMany finding) (xs_usedNow _) (fun H locs hP hS => ?_)
    refine lv_iinc (v := nI (i + 1)) (lv' := [(2, .int (nI (i + 1))), (0, .ref (a 0)), (1, .int tol)]) hx hb dX0_solvesBy_28 hl (k := 2) rfl (iinc_nI rfl) (by decide) rfl (fun ls hl => ?_)
    refine lv_goto (tgt := 15) hx hb dX0_solvesBy_31 (by decide) ?_
    have hP : va_P G vwCl (Xx t a K many settings isVoted lotsNow seen keyOne keyTwo votes looked matched without trio takenStar takenAs takenSpot pairs starArms spotArms isTurn places byStar byFar one (zerosF (i + 1) usedNow) laidMany finding) H := by exact hP
    exact ih (i + 1) (by omega) (by omega) _ _ _ hP hS (lv_sub hl [1, 2, 0] rfl) hex

set_option maxHeartbeats 4000000 in
theorem lx_solC {p : Program} {l : Launch} {e : Env} {s : State} {m : MethodId} {args : Array Value} {below : List Frame} {meth : Method} {c : Code} {Q : State → Prop} {H0 : Heap} (G : va_G) (t : Nat → ClassId) (A : Nat → Prop) (a : Nat → Nat) (cs : Nat → ClassId) (K : XK) (many : (Nat → Int32)) (settings : (Nat → Int32)) (isVoted : Int32) (lotsNow : Int32) (seen : (Nat → Int32)) (keyOne : (Nat → Int32)) (keyTwo : (Nat → Int32)) (votes : (Nat → Int32)) (looked : Int32) (matched : Int32) (without : Int32) (trio : (Nat → Int32)) (takenStar : (Nat → Int32)) (takenAs : (Nat → Int32)) (takenSpot : (Nat → Int32)) (pairs : Int32) (starArms : (Nat → Int64)) (spotArms : (Nat → Int64)) (isTurn : Int32) (places : (Nat → Int32)) (byStar : (Nat → Int32)) (byFar : (Nat → Int32)) (one : (Nat → Int64)) (usedNow : (Nat → Int32)) (laidMany : (Nat → Int32)) (finding : Int32) (dir : (Nat → Int32)) (tol : Int32) (s0 : CX) (hM : Mok many) (hB : BodOk K dir many) (h0 : nK many 0 ≤ 12) (h8 : nK many 1 ≤ 8) (hx : p.tables.exec = Jvm.exec) (hb : c.code = cX0_solvesBy) (hml : c.maxLocals = 3) (hown : s.vm.findClass RX0 = some m.cls) (hts : ∀ w ∈ lw_all, w.before args s = true) (hK : va_K G vwCl (Tys t) s) (hD : XD A a K.L) (hA : ∀ q, H0.size ≤ q → A q) (hE : xE A a cs s H0) : ∀ (n i : Nat), 0 ≤ i → i + n = (nK many 1) → ∀ (H : Heap) (locs : List Loc) (ls : Array Slot), va_P G vwCl (Xx t a K many settings isVoted lotsNow seen keyOne keyTwo votes looked matched without trio takenStar takenAs takenSpot pairs starArms spotArms isTurn places ((fz (fun p s => cnfP dir places (settings 3) isTurn without (nK many 0) p s) i s0).2.1) ((fz (fun p s => cnfP dir places (settings 3) isTurn without (nK many 0) p s) i s0).2.2) one ((fz (fun p s => cnfP dir places (settings 3) isTurn without (nK many 0) p s) i s0).1) laidMany finding) H → va_S A H0 H locs → lv_has ls 3 [(0, .ref (a 0)), (1, .int tol), (2, .int (nI i))] → (∀ (H : Heap) (locs : List Loc) (ls : Array Slot), va_P G vwCl (Xx t a K many settings isVoted lotsNow seen keyOne keyTwo votes looked matched without trio takenStar takenAs takenSpot pairs starArms spotArms isTurn places ((fz (fun p s => cnfP dir places (settings 3) isTurn without (nK many 0) p s) (nK many 1) s0).2.1) ((fz (fun p s => cnfP dir places (settings 3) isTurn without (nK many 0) p s) (nK many 1) s0).2.2) one ((fz (fun p s => cnfP dir places (settings 3) isTurn without (nK many 0) p s) (nK many 1) s0).1) laidMany finding) H → va_S A H0 H locs → lv_has ls 3 [(0, .ref (a 0)), (1, .int tol), (2, .int (nI (nK many 1)))] → W p l e (rm_ 3200 8 1 1) s m args below meth c H locs 1 1 Q (F0 m 61 ls [])) → W p l e (rm_ 3200 8 1 1) s m args below meth c H locs 1 1 Q (F0 m 36 ls []) := by
  intro n
  induction n with
  | zero =>
    intro i hlo hi H locs ls hP hS hl hex
    have hie : i = (nK many 1) := by omega
    subst hie
    refine lv_iload_n hx hb dX0_solvesBy_36 rfl (lv_at hl 2 rfl) ?_
    refine lv_aload_n hx hb dX0_solvesBy_37 rfl (lv_at hl 0 rfl) ?_
    refine va_get (D := G) (ci := 0) (C := RX0) (T := TX0) (N := 32) hx hb hts in_X0 hown hK hP 0 xk_this rfl 4 (by decide) (hts _ q637) (fun _ h => h) rfl dX0_solvesBy_38 ?_
    refine lv_iconst (v := 1) hx hb dX0_solvesBy_41 (by decide) ?_
    refine r_iald hx hb hK hP 8 0 xk_many rfl (f := many) 1 (nI_q 1) (by decide) (by decide) dX0_solvesBy_42 ?_
    refine rn_ge (tgt := 61) hx hb dX0_solvesBy_43 (by decide) rfl (hM 1 (by omega)).1 (by omega) (by omega) (fun c_1 => ?_) (fun c_1 => absurd c_1 (by omega))
    exact hex _ _ _ hP hS (lv_sub hl [0, 1, 2] rfl)
  | succ n ih =>
    intro i hlo hi H locs ls hP hS hl hex
    have hlt : i < (nK many 1) := by omega
    refine lv_iload_n hx hb dX0_solvesBy_36 rfl (lv_at hl 2 rfl) ?_
    refine lv_aload_n hx hb dX0_solvesBy_37 rfl (lv_at hl 0 rfl) ?_
    refine va_get (D := G) (ci := 0) (C := RX0) (T := TX0) (N := 32) hx hb hts in_X0 hown hK hP 0 xk_this rfl 4 (by decide) (hts _ q637) (fun _ h => h) rfl dX0_solvesBy_38 ?_
    refine lv_iconst (v := 1) hx hb dX0_solvesBy_41 (by decide) ?_
    refine r_iald hx hb hK hP 8 0 xk_many rfl (f := many) 1 (nI_q 1) (by decide) (by decide) dX0_solvesBy_42 ?_
    refine rn_ge (tgt := 61) hx hb dX0_solvesBy_43 (by decide) rfl (hM 1 (by omega)).1 (by omega) (by omega) (fun c_1 => absurd c_1 (by omega)) (fun c_1 => ?_)
    refine lv_aload_n hx hb dX0_solvesBy_46 rfl (lv_at hl 0 rfl) ?_
    refine lv_iload_n hx hb dX0_solvesBy_47 rfl (lv_at hl 2 rfl) ?_
    refine lv_aload_n hx hb dX0_solvesBy_48 rfl (lv_at hl 0 rfl) ?_
    refine va_get (D := G) (ci := 0) (C := RX0) (T := TX0) (N := 32) hx hb hts in_X0 hown hK hP 0 xk_this rfl 27 (by decide) (hts _ q660) (fun _ h => h) rfl dX0_solvesBy_49 ?_
    refine va_callv (va_runV (As := [.int (nI i), .ref (a 50)]) (rest := []) ⟨hx, hb, hml, hown, hts⟩ (mx_confirms l G t A a cs K many settings isVoted lotsNow seen keyOne keyTwo votes looked matched without trio takenStar takenAs takenSpot pairs starArms spotArms isTurn places ((fz (fun p s => cnfP dir places (settings 3) isTurn without (nK many 0) p s) i s0).2.1) ((fz (fun p s => cnfP dir places (settings 3) isTurn without (nK many 0) p s) i s0).2.2) one ((fz (fun p s => cnfP dir places (settings 3) isTurn without (nK many 0) p s) i s0).1) laidMany finding dir i hM hB (by omega)) (cwV 2 hts (lw_V q350 q352 qs22 q80 q353) rfl rfl rfl cd_X0_confirms ⟨Nat.le_of_ble_eq_true rfl, Nat.le_of_ble_eq_true rfl⟩) ⟨xPr_fb, x_recv hP hK, fun U hU hW => ⟨rfl, xPr_of hP hK hD hS hA hE hU hW⟩⟩ rfl rfl hl.1 rfl (lv_room (Nat.le_of_ble_eq_true rfl)) dX0_solvesBy_52 ⟨Nat.le_of_ble_eq_true rfl, Nat.le_of_ble_eq_true rfl⟩) hS (fun _ _ h => h) (fun _ h => h) (fun u tt H locs ht _ hq hP _ hkp hS => ?_)
    obtain rfl := hq
    have hP : va_P G vwCl (Xx t a K many settings isVoted lotsNow seen keyOne keyTwo votes looked matched without trio takenStar takenAs takenSpot pairs starArms spotArms isTurn places ((cnfP dir places (settings 3) isTurn without (nK many 0) i (((fz (fun p s => cnfP dir places (settings 3) isTurn without (nK many 0) p s) i s0).1), ((fz (fun p s => cnfP dir places (settings 3) isTurn without (nK many 0) p s) i s0).2.1), ((fz (fun p s => cnfP dir places (settings 3) isTurn without (nK many 0) p s) i s0).2.2))).2.1) ((cnfP dir places (settings 3) isTurn without (nK many 0) i (((fz (fun p s => cnfP dir places (settings 3) isTurn without (nK many 0) p s) i s0).1), ((fz (fun p s => cnfP dir places (settings 3) isTurn without (nK many 0) p s) i s0).2.1), ((fz (fun p s => cnfP dir places (settings 3) isTurn without (nK many 0) p s) i s0).2.2))).2.2) one ((cnfP dir places (settings 3) isTurn without (nK many 0) i (((fz (fun p s => cnfP dir places (settings 3) isTurn without (nK many 0) p s) i s0).1), ((fz (fun p s => cnfP dir places (settings 3) isTurn without (nK many 0) p s) i s0).2.1), ((fz (fun p s => cnfP dir places (settings 3) isTurn without (nK many 0) p s) i s0).2.2))).1) laidMany finding) H := by rw [← ht]; exact hP
    refine lv_iinc (v := nI (i + 1)) (lv' := [(2, .int (nI (i + 1))), (0, .ref (a 0)), (1, .int tol)]) hx hb dX0_solvesBy_55 hl (k := 2) rfl (iinc_nI rfl) (by decide) rfl (fun ls hl => ?_)
    refine lv_goto (tgt := 36) hx hb dX0_solvesBy_58 (by decide) ?_
    have hP : va_P G vwCl (Xx t a K many settings isVoted lotsNow seen keyOne keyTwo votes looked matched without trio takenStar takenAs takenSpot pairs starArms spotArms isTurn places ((fz (fun p s => cnfP dir places (settings 3) isTurn without (nK many 0) p s) (i + 1) s0).2.1) ((fz (fun p s => cnfP dir places (settings 3) isTurn without (nK many 0) p s) (i + 1) s0).2.2) one ((fz (fun p s => cnfP dir places (settings 3) isTurn without (nK many 0) p s) (i + 1) s0).1) laidMany finding) H := by rw [fz_s]; exact hP
    exact ih (i + 1) (by omega) (by omega) _ _ _ hP hS (lv_sub hl [1, 2, 0] rfl) hex

set_option maxHeartbeats 4000000 in
theorem mx_solvesBy (l : Launch) (G : va_G) (t : Nat → ClassId) (A : Nat → Prop) (a : Nat → Nat) (cs : Nat → ClassId) (K : XK) (many : (Nat → Int32)) (settings : (Nat → Int32)) (isVoted : Int32) (lotsNow : Int32) (seen : (Nat → Int32)) (keyOne : (Nat → Int32)) (keyTwo : (Nat → Int32)) (votes : (Nat → Int32)) (looked : Int32) (matched : Int32) (without : Int32) (trio : (Nat → Int32)) (takenStar : (Nat → Int32)) (takenAs : (Nat → Int32)) (takenSpot : (Nat → Int32)) (pairs : Int32) (starArms : (Nat → Int64)) (spotArms : (Nat → Int64)) (isTurn : Int32) (places : (Nat → Int32)) (byStar : (Nat → Int32)) (byFar : (Nat → Int32)) (one : (Nat → Int64)) (usedNow : (Nat → Int32)) (laidMany : (Nat → Int32)) (finding : Int32) (dir : (Nat → Int32)) (tol : Int32) (hM : Mok many) (hB : BodOk K dir many) (hb0 : ¬ settings 0 = 0) (hX : ArmX dir many) : Met l yX0_solvesBy (ws_ yX0_solvesBy cX0_solvesBy 3 (none)) (rm_ 3200 8 1 1) (va_Pc [.ref (a 0), .int tol] (xPr G t A a cs K.L (Xx t a K many settings isVoted lotsNow seen keyOne keyTwo votes looked matched without trio takenStar takenAs takenSpot pairs starArms spotArms isTurn places byStar byFar one usedNow laidMany finding))) (va_Qv (fun (uv : (SX) × (Nat → Int32) × (Nat → Int32) × (Nat → Int32) × (Nat → Int64)) => uv.1 = solX dir settings tol without (nK many 0) (nK many 1) ((looked, matched, votes), (takenStar, takenAs, takenSpot, pairs), (isTurn, starArms, spotArms, places), (usedNow, byStar, byFar))) (mB G (fun (uv : (SX) × (Nat → Int32) × (Nat → Int32) × (Nat → Int32) × (Nat → Int64)) => Xx t a K many settings isVoted lotsNow seen uv.2.1 uv.2.2.1 uv.1.1.2.2 uv.1.1.1 uv.1.1.2.1 without uv.2.2.2.1 uv.1.2.1.1 uv.1.2.1.2.1 uv.1.2.1.2.2.1 uv.1.2.1.2.2.2 uv.1.2.2.1.2.1 uv.1.2.2.1.2.2.1 uv.1.2.2.1.1 uv.1.2.2.1.2.2.2 uv.1.2.2.2.2.1 uv.1.2.2.2.2.2 uv.2.2.2.2 uv.1.2.2.2.1 laidMany finding)) A) 1 1 A := by
  refine mkx_W (by decide) (Nat.le_of_ble_eq_true rfl) ?_
  intro p e s m below meth c ls hx hb hml hr hlk hts hown hnm hv hl
  obtain ⟨hP, hK, hD, hA, hE⟩ := hv
  have hS : va_S A s.heap s.heap [] := va_S.rf
  have hl : lv_has ls 3 [(0, .ref (a 0)), (1, .int tol)] := hl
  have h0 : nK many 0 ≤ 12 := (hM 0 (by omega)).2
  have h8 : nK many 1 ≤ 8 := (hM 1 (by omega)).2
  refine lv_aload_n hx hb dX0_solvesBy_0 rfl (lv_at hl 0 rfl) ?_
  refine lv_iload_n hx hb dX0_solvesBy_1 rfl (lv_at hl 1 rfl) ?_
  refine va_callv (va_runV (As := [.int tol]) (rest := []) ⟨hx, hb, hml, hown, hts⟩ (mx_votesBy l G t A a cs K many settings isVoted lotsNow seen keyOne keyTwo votes looked matched without trio takenStar takenAs takenSpot pairs starArms spotArms isTurn places byStar byFar one usedNow laidMany finding dir tol hM hB hb0) (cwV 1 hts (lw_V q281 q283 qs12 q80 q284) rfl rfl rfl cd_X0_votesBy ⟨Nat.le_of_ble_eq_true rfl, Nat.le_of_ble_eq_true rfl⟩) ⟨xPr_fb, x_recv hP hK, fun U hU hW => ⟨rfl, xPr_of hP hK hD hS hA hE hU hW⟩⟩ rfl rfl hl.1 rfl (lv_room (Nat.le_of_ble_eq_true rfl)) dX0_solvesBy_2 ⟨Nat.le_of_ble_eq_true rfl, Nat.le_of_ble_eq_true rfl⟩) hS (fun _ _ h => h) (fun _ h => h) (fun u tt H locs ht _ hq hP _ hkp hS => ?_)
  obtain ⟨u_1, keyOne_u_1, keyTwo_u_1, trio_u_1⟩ := u
  obtain rfl := hq
  have hP : va_P G vwCl (Xx t a K many settings isVoted lotsNow seen keyOne_u_1 keyTwo_u_1 ((votesX dir (settings 0) tol without (nK many 0) (nK many 1) votes).2.2) ((votesX dir (settings 0) tol without (nK many 0) (nK many 1) votes).1) ((votesX dir (settings 0) tol without (nK many 0) (nK many 1) votes).2.1) without trio_u_1 takenStar takenAs takenSpot pairs starArms spotArms isTurn places byStar byFar one usedNow laidMany finding) H := by rw [← ht]; exact hP
  obtain ⟨gV, egV⟩ : ∃ z, z = votesX dir (settings 0) tol without (nK many 0) (nK many 1) votes := ⟨_, rfl⟩
  rw [← egV] at hP
  refine lv_aload_n hx hb dX0_solvesBy_5 rfl (lv_at hl 0 rfl) ?_
  refine va_callv (va_runV (As := []) (rest := []) ⟨hx, hb, hml, hown, hts⟩ (mx_takes l G t A a cs K many settings isVoted lotsNow seen keyOne_u_1 keyTwo_u_1 gV.2.2 gV.1 gV.2.1 without trio_u_1 takenStar takenAs takenSpot pairs starArms spotArms isTurn places byStar byFar one usedNow laidMany finding dir hM) (cwV 0 hts (lw_V q309 q311 qs16 q80 q312) rfl rfl rfl cd_X0_takes ⟨Nat.le_of_ble_eq_true rfl, Nat.le_of_ble_eq_true rfl⟩) ⟨xPr_fb, x_recv hP hK, fun U hU hW => ⟨rfl, xPr_of hP hK hD hS hA hE hU hW⟩⟩ rfl rfl hl.1 rfl (lv_room (Nat.le_of_ble_eq_true rfl)) dX0_solvesBy_6 ⟨Nat.le_of_ble_eq_true rfl, Nat.le_of_ble_eq_true rfl⟩) hS (fun _ _ h => h) (fun _ h => h) (fun u tt H locs ht _ hq hP _ hkp hS => ?_)
  obtain rfl := hq
  have hP : va_P G vwCl (Xx t a K many settings isVoted lotsNow seen keyOne_u_1 keyTwo_u_1 gV.2.2 gV.1 gV.2.1 without trio_u_1 ((takesX gV.2.2 (settings 2) (nK many 0) (nK many 1) (takenStar, takenAs, takenSpot, pairs)).1) ((takesX gV.2.2 (settings 2) (nK many 0) (nK many 1) (takenStar, takenAs, takenSpot, pairs)).2.1) ((takesX gV.2.2 (settings 2) (nK many 0) (nK many 1) (takenStar, takenAs, takenSpot, pairs)).2.2.1) ((takesX gV.2.2 (settings 2) (nK many 0) (nK many 1) (takenStar, takenAs, takenSpot, pairs)).2.2.2) starArms spotArms isTurn places byStar byFar one usedNow laidMany finding) H := by rw [← ht]; exact hP
  obtain ⟨gT, egT⟩ : ∃ z, z = takesX gV.2.2 (settings 2) (nK many 0) (nK many 1) (takenStar, takenAs, takenSpot, pairs) := ⟨_, rfl⟩
  rw [← egT] at hP
  have hT2 : TwoOk (nK many 0) (nK many 1) gT := by rw [egT]; exact takesX_two gV.2.2 (settings 2) h0 h8 _
  have hT3 : ¬ gT.2.2.2 ≤ 1 → (gT.2.2.1 0).toNatClampNeg < (nK many 1) ∧ (gT.2.2.1 1).toNatClampNeg < (nK many 1) ∧ (gT.1 (gT.2.2.1 0).toNatClampNeg).toNatClampNeg < (nK many 0) ∧ (gT.1 (gT.2.2.1 1).toNatClampNeg).toNatClampNeg < (nK many 0) ∧ gT.2.2.1 0 = nI (gT.2.2.1 0).toNatClampNeg ∧ gT.2.2.1 1 = nI (gT.2.2.1 1).toNatClampNeg ∧ gT.1 (gT.2.2.1 0).toNatClampNeg = nI (gT.1 (gT.2.2.1 0).toNatClampNeg).toNatClampNeg ∧ gT.1 (gT.2.2.1 1).toNatClampNeg = nI (gT.1 (gT.2.2.1 1).toNatClampNeg).toNatClampNeg := two_nat h0 h8 hT2
  refine lv_aload_n hx hb dX0_solvesBy_9 rfl (lv_at hl 0 rfl) ?_
  refine va_callv (va_runV (As := []) (rest := []) ⟨hx, hb, hml, hown, hts⟩ (mx_findsTurn l G t A a cs K many settings isVoted lotsNow seen keyOne_u_1 keyTwo_u_1 gV.2.2 gV.1 gV.2.1 without trio_u_1 gT.1 gT.2.1 gT.2.2.1 gT.2.2.2 starArms spotArms isTurn places byStar byFar one usedNow laidMany finding dir ((gT.2.2.1 0).toNatClampNeg) ((gT.2.2.1 1).toNatClampNeg) ((gT.1 (gT.2.2.1 0).toNatClampNeg).toNatClampNeg) ((gT.1 (gT.2.2.1 1).toNatClampNeg).toNatClampNeg) hM hB hT3 hX) (cwV 0 hts (lw_V q321 q323 qs19 q80 q324) rfl rfl rfl cd_X0_findsTurn ⟨Nat.le_of_ble_eq_true rfl, Nat.le_of_ble_eq_true rfl⟩) ⟨xPr_fb, x_recv hP hK, fun U hU hW => ⟨rfl, xPr_of hP hK hD hS hA hE hU hW⟩⟩ rfl rfl hl.1 rfl (lv_room (Nat.le_of_ble_eq_true rfl)) dX0_solvesBy_10 ⟨Nat.le_of_ble_eq_true rfl, Nat.le_of_ble_eq_true rfl⟩) hS (fun _ _ h => h) (fun _ h => h) (fun u tt H locs ht _ hq hP _ hkp hS => ?_)
  obtain ⟨u_2, one_u_2⟩ := u
  obtain rfl := hq
  have hP : va_P G vwCl (Xx t a K many settings isVoted lotsNow seen keyOne_u_1 keyTwo_u_1 gV.2.2 gV.1 gV.2.1 without trio_u_1 gT.1 gT.2.1 gT.2.2.1 gT.2.2.2 ((trnX dir (nK many 0) gT.2.2.2 ((gT.2.2.1 0).toNatClampNeg) ((gT.2.2.1 1).toNatClampNeg) ((gT.1 (gT.2.2.1 0).toNatClampNeg).toNatClampNeg) ((gT.1 (gT.2.2.1 1).toNatClampNeg).toNatClampNeg) starArms spotArms places).2.1) ((trnX dir (nK many 0) gT.2.2.2 ((gT.2.2.1 0).toNatClampNeg) ((gT.2.2.1 1).toNatClampNeg) ((gT.1 (gT.2.2.1 0).toNatClampNeg).toNatClampNeg) ((gT.1 (gT.2.2.1 1).toNatClampNeg).toNatClampNeg) starArms spotArms places).2.2.1) ((trnX dir (nK many 0) gT.2.2.2 ((gT.2.2.1 0).toNatClampNeg) ((gT.2.2.1 1).toNatClampNeg) ((gT.1 (gT.2.2.1 0).toNatClampNeg).toNatClampNeg) ((gT.1 (gT.2.2.1 1).toNatClampNeg).toNatClampNeg) starArms spotArms places).1) ((trnX dir (nK many 0) gT.2.2.2 ((gT.2.2.1 0).toNatClampNeg) ((gT.2.2.1 1).toNatClampNeg) ((gT.1 (gT.2.2.1 0).toNatClampNeg).toNatClampNeg) ((gT.1 (gT.2.2.1 1).toNatClampNeg).toNatClampNeg) starArms spotArms places).2.2.2) byStar byFar one_u_2 usedNow laidMany finding) H := by rw [← ht]; exact hP
  have hP : va_P G vwCl (Xx t a K many settings isVoted lotsNow seen keyOne_u_1 keyTwo_u_1 gV.2.2 gV.1 gV.2.1 without trio_u_1 gT.1 gT.2.1 gT.2.2.1 gT.2.2.2 ((trnT dir (nK many 0) gT starArms spotArms places).2.1) ((trnT dir (nK many 0) gT starArms spotArms places).2.2.1) ((trnT dir (nK many 0) gT starArms spotArms places).1) ((trnT dir (nK many 0) gT starArms spotArms places).2.2.2) byStar byFar one_u_2 usedNow laidMany finding) H := hP
  obtain ⟨gN, egN⟩ : ∃ z, z = trnT dir (nK many 0) gT starArms spotArms places := ⟨_, rfl⟩
  rw [← egN] at hP
  refine lv_iconst (v := 0) hx hb dX0_solvesBy_13 (by decide) ?_
  refine lv_istore_n (lv' := [(2, .int 0), (0, .ref (a 0)), (1, .int tol)]) hx hb dX0_solvesBy_14 rfl hl (by decide) rfl (fun ls hl => ?_)
  have hP : va_P G vwCl (Xx t a K many settings isVoted lotsNow seen keyOne_u_1 keyTwo_u_1 gV.2.2 gV.1 gV.2.1 without trio_u_1 gT.1 gT.2.1 gT.2.2.1 gT.2.2.2 gN.2.1 gN.2.2.1 gN.1 gN.2.2.2 byStar byFar one_u_2 (zerosF 0 usedNow) laidMany finding) H := by exact hP
  refine lx_solZ G t A a cs K many settings isVoted lotsNow seen keyOne_u_1 keyTwo_u_1 gV.2.2 gV.1 gV.2.1 without trio_u_1 gT.1 gT.2.1 gT.2.2.1 gT.2.2.2 gN.2.1 gN.2.2.1 gN.1 gN.2.2.2 byStar byFar one_u_2 usedNow laidMany finding dir tol hx hb hml hown hts hK hD hA hE (12 - 0) 0 (by omega) (by omega) _ _ _ hP hS (lv_sub hl [1, 2, 0] rfl) (fun H locs ls hP hS hl => ?_)
  refine lv_iconst (v := 0) hx hb dX0_solvesBy_34 (by decide) ?_
  refine lv_istore_n (lv' := [(2, .int 0), (0, .ref (a 0)), (1, .int tol)]) hx hb dX0_solvesBy_35 rfl hl (by decide) rfl (fun ls hl => ?_)
  have hP : va_P G vwCl (Xx t a K many settings isVoted lotsNow seen keyOne_u_1 keyTwo_u_1 gV.2.2 gV.1 gV.2.1 without trio_u_1 gT.1 gT.2.1 gT.2.2.1 gT.2.2.2 gN.2.1 gN.2.2.1 gN.1 gN.2.2.2 ((fz (fun p s => cnfP dir gN.2.2.2 (settings 3) gN.1 without (nK many 0) p s) 0 ((zerosF 12 usedNow), byStar, byFar)).2.1) ((fz (fun p s => cnfP dir gN.2.2.2 (settings 3) gN.1 without (nK many 0) p s) 0 ((zerosF 12 usedNow), byStar, byFar)).2.2) one_u_2 ((fz (fun p s => cnfP dir gN.2.2.2 (settings 3) gN.1 without (nK many 0) p s) 0 ((zerosF 12 usedNow), byStar, byFar)).1) laidMany finding) H := by rw [fz_0]; exact hP
  refine lx_solC G t A a cs K many settings isVoted lotsNow seen keyOne_u_1 keyTwo_u_1 gV.2.2 gV.1 gV.2.1 without trio_u_1 gT.1 gT.2.1 gT.2.2.1 gT.2.2.2 gN.2.1 gN.2.2.1 gN.1 gN.2.2.2 byStar byFar one_u_2 usedNow laidMany finding dir tol ((zerosF 12 usedNow), byStar, byFar) hM hB (by omega) (by omega) hx hb hml hown hts hK hD hA hE ((nK many 1) - 0) 0 (by omega) (by omega) _ _ _ hP hS (lv_sub hl [1, 2, 0] rfl) (fun H locs ls hP hS hl => ?_)
  have hP : va_P G vwCl (Xx t a K many settings isVoted lotsNow seen keyOne_u_1 keyTwo_u_1 ((solX dir settings tol without (nK many 0) (nK many 1) ((looked, matched, votes), (takenStar, takenAs, takenSpot, pairs), (isTurn, starArms, spotArms, places), (usedNow, byStar, byFar))).1.2.2) ((solX dir settings tol without (nK many 0) (nK many 1) ((looked, matched, votes), (takenStar, takenAs, takenSpot, pairs), (isTurn, starArms, spotArms, places), (usedNow, byStar, byFar))).1.1) ((solX dir settings tol without (nK many 0) (nK many 1) ((looked, matched, votes), (takenStar, takenAs, takenSpot, pairs), (isTurn, starArms, spotArms, places), (usedNow, byStar, byFar))).1.2.1) without trio_u_1 ((solX dir settings tol without (nK many 0) (nK many 1) ((looked, matched, votes), (takenStar, takenAs, takenSpot, pairs), (isTurn, starArms, spotArms, places), (usedNow, byStar, byFar))).2.1.1) ((solX dir settings tol without (nK many 0) (nK many 1) ((looked, matched, votes), (takenStar, takenAs, takenSpot, pairs), (isTurn, starArms, spotArms, places), (usedNow, byStar, byFar))).2.1.2.1) ((solX dir settings tol without (nK many 0) (nK many 1) ((looked, matched, votes), (takenStar, takenAs, takenSpot, pairs), (isTurn, starArms, spotArms, places), (usedNow, byStar, byFar))).2.1.2.2.1) ((solX dir settings tol without (nK many 0) (nK many 1) ((looked, matched, votes), (takenStar, takenAs, takenSpot, pairs), (isTurn, starArms, spotArms, places), (usedNow, byStar, byFar))).2.1.2.2.2) ((solX dir settings tol without (nK many 0) (nK many 1) ((looked, matched, votes), (takenStar, takenAs, takenSpot, pairs), (isTurn, starArms, spotArms, places), (usedNow, byStar, byFar))).2.2.1.2.1) ((solX dir settings tol without (nK many 0) (nK many 1) ((looked, matched, votes), (takenStar, takenAs, takenSpot, pairs), (isTurn, starArms, spotArms, places), (usedNow, byStar, byFar))).2.2.1.2.2.1) ((solX dir settings tol without (nK many 0) (nK many 1) ((looked, matched, votes), (takenStar, takenAs, takenSpot, pairs), (isTurn, starArms, spotArms, places), (usedNow, byStar, byFar))).2.2.1.1) ((solX dir settings tol without (nK many 0) (nK many 1) ((looked, matched, votes), (takenStar, takenAs, takenSpot, pairs), (isTurn, starArms, spotArms, places), (usedNow, byStar, byFar))).2.2.1.2.2.2) ((solX dir settings tol without (nK many 0) (nK many 1) ((looked, matched, votes), (takenStar, takenAs, takenSpot, pairs), (isTurn, starArms, spotArms, places), (usedNow, byStar, byFar))).2.2.2.2.1) ((solX dir settings tol without (nK many 0) (nK many 1) ((looked, matched, votes), (takenStar, takenAs, takenSpot, pairs), (isTurn, starArms, spotArms, places), (usedNow, byStar, byFar))).2.2.2.2.2) one_u_2 ((solX dir settings tol without (nK many 0) (nK many 1) ((looked, matched, votes), (takenStar, takenAs, takenSpot, pairs), (isTurn, starArms, spotArms, places), (usedNow, byStar, byFar))).2.2.2.1) laidMany finding) H := by (rw [solX_eq dir settings tol without (nK many 0) (nK many 1) ((looked, matched, votes), (takenStar, takenAs, takenSpot, pairs), (isTurn, starArms, spotArms, places), (usedNow, byStar, byFar)) gV gT gN _ egV egT egN rfl]; exact hP)
  exact W.vret hx hb hr (fun tt ht _ => ⟨⟨((solX dir settings tol without (nK many 0) (nK many 1) ((looked, matched, votes), (takenStar, takenAs, takenSpot, pairs), (isTurn, starArms, spotArms, places), (usedNow, byStar, byFar))), keyOne_u_1, keyTwo_u_1, trio_u_1, one_u_2), rfl, rfl, (show va_P G vwCl ((fun (uv : (SX) × (Nat → Int32) × (Nat → Int32) × (Nat → Int32) × (Nat → Int64)) => Xx t a K many settings isVoted lotsNow seen uv.2.1 uv.2.2.1 uv.1.1.2.2 uv.1.1.1 uv.1.1.2.1 without uv.2.2.2.1 uv.1.2.1.1 uv.1.2.1.2.1 uv.1.2.1.2.2.1 uv.1.2.1.2.2.2 uv.1.2.2.1.2.1 uv.1.2.2.1.2.2.1 uv.1.2.2.1.1 uv.1.2.2.1.2.2.2 uv.1.2.2.2.2.1 uv.1.2.2.2.2.2 uv.2.2.2.2 uv.1.2.2.2.1 laidMany finding) ((solX dir settings tol without (nK many 0) (nK many 1) ((looked, matched, votes), (takenStar, takenAs, takenSpot, pairs), (isTurn, starArms, spotArms, places), (usedNow, byStar, byFar))), keyOne_u_1, keyTwo_u_1, trio_u_1, one_u_2)) tt.heap from by rw [ht]; exact hP)⟩, hS.F ht⟩) hS.2.2 dX0_solvesBy_61 hlk
