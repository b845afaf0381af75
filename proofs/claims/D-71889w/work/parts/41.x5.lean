/-! the tracker: taking -/
set_option maxHeartbeats 4000000 in
theorem lx_free {p : Program} {l : Launch} {e : Env} {s : State} {m : MethodId} {args : Array Value} {below : List Frame} {meth : Method} {c : Code} {Q : State → Prop} {H0 : Heap} (G : va_G) (t : Nat → ClassId) (A : Nat → Prop) (a : Nat → Nat) (cs : Nat → ClassId) (K : XK) (many : (Nat → Int32)) (settings : (Nat → Int32)) (isVoted : Int32) (lotsNow : Int32) (seen : (Nat → Int32)) (keyOne : (Nat → Int32)) (keyTwo : (Nat → Int32)) (votes : (Nat → Int32)) (looked : Int32) (matched : Int32) (without : Int32) (trio : (Nat → Int32)) (takenStar : (Nat → Int32)) (takenAs : (Nat → Int32)) (takenSpot : (Nat → Int32)) (pairs : Int32) (starArms : (Nat → Int64)) (spotArms : (Nat → Int64)) (isTurn : Int32) (places : (Nat → Int32)) (byStar : (Nat → Int32)) (byFar : (Nat → Int32)) (one : (Nat → Int64)) (usedNow : (Nat → Int32)) (laidMany : (Nat → Int32)) (finding : Int32) (dir : (Nat → Int32)) (x : Int32) (hx : p.tables.exec = Jvm.exec) (hb : c.code = cX0_isFree) (hml : c.maxLocals = 4) (hown : s.vm.findClass RX0 = some m.cls) (hts : ∀ w ∈ lw_all, w.before args s = true) (hK : va_K G vwCl (Tys t) s) (hD : XD A a K.L) (hA : ∀ q, H0.size ≤ q → A q) (hE : xE A a cs s H0) {H : Heap} {locs : List Loc} (hP : va_P G vwCl (Xx t a K many settings isVoted lotsNow seen keyOne keyTwo votes looked matched without trio takenStar takenAs takenSpot pairs starArms spotArms isTurn places byStar byFar one usedNow laidMany finding) H) (hS : va_S A H0 H locs) : ∀ (n i : Nat), 0 ≤ i → i + n = 8 → ∀ (ls : Array Slot), lv_has ls 4 [(0, .ref (a 0)), (1, .int x), (2, .int (b2i (frX takenStar x i))), (3, .int (nI i))] → (∀ (ls : Array Slot), lv_has ls 4 [(0, .ref (a 0)), (1, .int x), (2, .int (b2i (frX takenStar x 8))), (3, .int (nI 8))] → W p l e (rm_ 0 0 0 0) s m args below meth c H locs 0 0 Q (F0 m 36 ls [])) → W p l e (rm_ 0 0 0 0) s m args below meth c H locs 0 0 Q (F0 m 4 ls []) := by
  intro n
  induction n with
  | zero =>
    intro i hlo hi ls hl hex
    have hie : i = 8 := by omega
    subst hie
    refine lv_iload_n hx hb dX0_isFree_4 rfl (lv_at hl 3 rfl) ?_
    refine lv_bipush (v := 8) hx hb dX0_isFree_5 (by decide) ?_
    refine rn_ge (tgt := 36) hx hb dX0_isFree_7 (by decide) rfl (nI_q 8) (by omega) (by omega) (fun c_1 => ?_) (fun c_1 => absurd c_1 (by omega))
    exact hex _ (lv_sub hl [0, 1, 2, 3] rfl)
  | succ n ih =>
    intro i hlo hi ls hl hex
    have hlt : i < 8 := by omega
    refine lv_iload_n hx hb dX0_isFree_4 rfl (lv_at hl 3 rfl) ?_
    refine lv_bipush (v := 8) hx hb dX0_isFree_5 (by decide) ?_
    refine rn_ge (tgt := 36) hx hb dX0_isFree_7 (by decide) rfl (nI_q 8) (by omega) (by omega) (fun c_1 => absurd c_1 (by omega)) (fun c_1 => ?_)
    refine lv_iload_n hx hb dX0_isFree_10 rfl (lv_at hl 2 rfl) ?_
    refine rb_eq (tgt := 28) hx hb dX0_isFree_11 (by decide) (fun c_2 => ?_) (fun c_2 => ?_)
    · refine lv_iconst (v := 0) hx hb dX0_isFree_28 (by decide) ?_
      refine lv_istore_n (lv' := [(2, .int 0), (0, .ref (a 0)), (1, .int x), (3, .int (nI i))]) hx hb dX0_isFree_29 rfl hl (by decide) rfl (fun ls hl => ?_)
      refine lv_iinc (v := nI (i + 1)) (lv' := [(3, .int (nI (i + 1))), (2, .int 0), (0, .ref (a 0)), (1, .int x)]) hx hb dX0_isFree_30 hl (k := 3) rfl (iinc_nI rfl) (by decide) rfl (fun ls hl => ?_)
      refine lv_goto (tgt := 4) hx hb dX0_isFree_33 (by decide) ?_
      exact ih (i + 1) (by omega) (by omega) _ (by rw [show b2i (frX takenStar x (i + 1)) = 0 from b2i_f (fun h => c_2 (frX_s.mp h).1)]; exact lv_sub hl [2, 3, 1, 0] rfl) hex
    · refine lv_aload_n hx hb dX0_isFree_14 rfl (lv_at hl 0 rfl) ?_
      refine va_get (D := G) (ci := 0) (C := RX0) (T := TX0) (N := 32) hx hb hts in_X0 hown hK hP 0 xk_this rfl 16 (by decide) (hts _ q649) (fun _ h => h) rfl dX0_isFree_15 ?_
      refine lv_iload_n hx hb dX0_isFree_18 rfl (lv_at hl 3 rfl) ?_
      refine r_iald hx hb hK hP 23 0 xk_takenStar rfl (f := takenStar) i rfl (by omega) (by decide) dX0_isFree_19 ?_
      refine lv_iload_n hx hb dX0_isFree_20 rfl (lv_at hl 1 rfl) ?_
      refine lv_icmp_eq (tgt := 28) hx hb dX0_isFree_21 (by decide) (fun c_3 => ?_) (fun c_3 => ?_)
      · refine lv_iconst (v := 0) hx hb dX0_isFree_28 (by decide) ?_
        refine lv_istore_n (lv' := [(2, .int 0), (0, .ref (a 0)), (1, .int x), (3, .int (nI i))]) hx hb dX0_isFree_29 rfl hl (by decide) rfl (fun ls hl => ?_)
        refine lv_iinc (v := nI (i + 1)) (lv' := [(3, .int (nI (i + 1))), (2, .int 0), (0, .ref (a 0)), (1, .int x)]) hx hb dX0_isFree_30 hl (k := 3) rfl (iinc_nI rfl) (by decide) rfl (fun ls hl => ?_)
        refine lv_goto (tgt := 4) hx hb dX0_isFree_33 (by decide) ?_
        exact ih (i + 1) (by omega) (by omega) _ (by rw [show b2i (frX takenStar x (i + 1)) = 0 from b2i_f (fun h => (frX_s.mp h).2 c_3)]; exact lv_sub hl [2, 3, 1, 0] rfl) hex
      · refine lv_iconst (v := 1) hx hb dX0_isFree_24 (by decide) ?_
        refine lv_goto (tgt := 29) hx hb dX0_isFree_25 (by decide) ?_
        refine lv_istore_n (lv' := [(2, .int 1), (0, .ref (a 0)), (1, .int x), (3, .int (nI i))]) hx hb dX0_isFree_29 rfl hl (by decide) rfl (fun ls hl => ?_)
        refine lv_iinc (v := nI (i + 1)) (lv' := [(3, .int (nI (i + 1))), (2, .int 1), (0, .ref (a 0)), (1, .int x)]) hx hb dX0_isFree_30 hl (k := 3) rfl (iinc_nI rfl) (by decide) rfl (fun ls hl => ?_)
        refine lv_goto (tgt := 4) hx hb dX0_isFree_33 (by decide) ?_
        exact ih (i + 1) (by omega) (by omega) _ (by rw [show b2i (frX takenStar x (i + 1)) = 1 from b2i_t (frX_s.mpr ⟨c_2, c_3⟩)]; exact lv_sub hl [2, 3, 1, 0] rfl) hex

set_option maxHeartbeats 4000000 in
theorem mx_isFree (l : Launch) (G : va_G) (t : Nat → ClassId) (A : Nat → Prop) (a : Nat → Nat) (cs : Nat → ClassId) (K : XK) (many : (Nat → Int32)) (settings : (Nat → Int32)) (isVoted : Int32) (lotsNow : Int32) (seen : (Nat → Int32)) (keyOne : (Nat → Int32)) (keyTwo : (Nat → Int32)) (votes : (Nat → Int32)) (looked : Int32) (matched : Int32) (without : Int32) (trio : (Nat → Int32)) (takenStar : (Nat → Int32)) (takenAs : (Nat → Int32)) (takenSpot : (Nat → Int32)) (pairs : Int32) (starArms : (Nat → Int64)) (spotArms : (Nat → Int64)) (isTurn : Int32) (places : (Nat → Int32)) (byStar : (Nat → Int32)) (byFar : (Nat → Int32)) (one : (Nat → Int64)) (usedNow : (Nat → Int32)) (laidMany : (Nat → Int32)) (finding : Int32) (dir : (Nat → Int32)) (x : Int32) : Met l yX0_isFree (ws_ yX0_isFree cX0_isFree 4 (some .boolean)) (rm_ 0 0 0 0) (va_Pc [.ref (a 0), .int x] (xPr G t A a cs K.L (Xx t a K many settings isVoted lotsNow seen keyOne keyTwo votes looked matched without trio takenStar takenAs takenSpot pairs starArms spotArms isTurn places byStar byFar one usedNow laidMany finding))) (vp_Si (fun rv => rv = b2i (frX takenStar x 8))) 0 0 (fun _ => False) := by
  refine mkx_W (by decide) (Nat.le_of_ble_eq_true rfl) ?_
  intro p e s m below meth c ls hx hb hml hr hlk hts hown hnm hv hl
  obtain ⟨hP, hK, hD, hA, hE⟩ := hv
  have hS : va_S A s.heap s.heap [] := va_S.rf
  have hl : lv_has ls 4 [(0, .ref (a 0)), (1, .int x)] := hl
  refine lv_iconst (v := 1) hx hb dX0_isFree_0 (by decide) ?_
  refine lv_istore_n (lv' := [(2, .int 1), (0, .ref (a 0)), (1, .int x)]) hx hb dX0_isFree_1 rfl hl (by decide) rfl (fun ls hl => ?_)
  refine lv_iconst (v := 0) hx hb dX0_isFree_2 (by decide) ?_
  refine lv_istore_n (lv' := [(3, .int 0), (2, .int 1), (0, .ref (a 0)), (1, .int x)]) hx hb dX0_isFree_3 rfl hl (by decide) rfl (fun ls hl => ?_)
  have hl : lv_has ls 4 [(0, .ref (a 0)), (1, .int x), (2, .int (b2i (frX takenStar x 0))), (3, .int (nI 0))] := by rw [show b2i (frX takenStar x 0) = 1 from b2i_t (fun p hp => absurd hp (by omega))]; exact lv_sub hl [2, 3, 1, 0] rfl
  refine lx_free G t A a cs K many settings isVoted lotsNow seen keyOne keyTwo votes looked matched without trio takenStar takenAs takenSpot pairs starArms spotArms isTurn places byStar byFar one usedNow laidMany finding dir x hx hb hml hown hts hK hD hA hE hP hS (8 - 0) 0 (by omega) (by omega) _ (lv_sub hl [0, 1, 2, 3] rfl) (fun ls hl => ?_)
  refine lv_iload_n hx hb dX0_isFree_36 rfl (lv_at hl 2 rfl) ?_
  exact W.zret (v := (b2i (frX takenStar x 8))) hx hb hr b2i_nz (fun tt ht _ => ⟨_, rfl, rfl, ht⟩) (fun _ h => by cases h) dX0_isFree_37 hlk

set_option maxHeartbeats 4000000 in
theorem lx_oneQ {p : Program} {l : Launch} {e : Env} {s : State} {m : MethodId} {args : Array Value} {below : List Frame} {meth : Method} {c : Code} {Q : State → Prop} {H0 : Heap} (G : va_G) (t : Nat → ClassId) (A : Nat → Prop) (a : Nat → Nat) (cs : Nat → ClassId) (K : XK) (many : (Nat → Int32)) (settings : (Nat → Int32)) (isVoted : Int32) (lotsNow : Int32) (seen : (Nat → Int32)) (keyOne : (Nat → Int32)) (keyTwo : (Nat → Int32)) (votes : (Nat → Int32)) (looked : Int32) (matched : Int32) (without : Int32) (trio : (Nat → Int32)) (takenStar : (Nat → Int32)) (takenAs : (Nat → Int32)) (takenSpot : (Nat → Int32)) (pairs : Int32) (starArms : (Nat → Int64)) (spotArms : (Nat → Int64)) (isTurn : Int32) (places : (Nat → Int32)) (byStar : (Nat → Int32)) (byFar : (Nat → Int32)) (one : (Nat → Int64)) (usedNow : (Nat → Int32)) (laidMany : (Nat → Int32)) (finding : Int32) (dir : (Nat → Int32)) (pp : Nat) (s0 : Int32 × Int32) (hM : Mok many) (h0 : nK many 0 ≤ 12) (hp8 : pp < 8) (hst : takenStar pp = -1) (hok : OneOk takenStar s0) (hx : p.tables.exec = Jvm.exec) (hb : c.code = cX0_takesOne) (hml : c.maxLocals = 6) (hown : s.vm.findClass RX0 = some m.cls) (hts : ∀ w ∈ lw_all, w.before args s = true) (hK : va_K G vwCl (Tys t) s) (hD : XD A a K.L) (hA : ∀ q, H0.size ≤ q → A q) (hE : xE A a cs s H0) {H : Heap} {locs : List Loc} (hP : va_P G vwCl (Xx t a K many settings isVoted lotsNow seen keyOne keyTwo votes looked matched without trio takenStar takenAs takenSpot pairs starArms spotArms isTurn places byStar byFar one usedNow laidMany finding) H) (hS : va_S A H0 H locs) : ∀ (n i : Nat), 0 ≤ i → i + n = (nK many 0) → ∀ (ls : Array Slot), lv_has ls 6 [(0, .ref (a 0)), (1, .int ((onQ votes (settings 2) takenStar pp i s0).1)), (2, .int ((onQ votes (settings 2) takenStar pp i s0).2)), (3, .int (nI pp)), (4, .int (nI i))] → (∀ (ls : Array Slot), lv_has ls 6 [(0, .ref (a 0)), (1, .int ((onQ votes (settings 2) takenStar pp (nK many 0) s0).1)), (2, .int ((onQ votes (settings 2) takenStar pp (nK many 0) s0).2)), (3, .int (nI pp)), (4, .int (nI (nK many 0)))] → W p l e (rm_ 0 1 0 0) s m args below meth c H locs 0 0 Q (F0 m 115 ls [])) → W p l e (rm_ 0 1 0 0) s m args below meth c H locs 0 0 Q (F0 m 19 ls []) := by
  intro n
  induction n with
  | zero =>
    intro i hlo hi ls hl hex
    have hie : i = (nK many 0) := by omega
    subst hie
    refine lv_iload hx hb dX0_takesOne_19 (lv_at hl 4 rfl) ?_
    refine lv_aload_n hx hb dX0_takesOne_21 rfl (lv_at hl 0 rfl) ?_
    refine va_get (D := G) (ci := 0) (C := RX0) (T := TX0) (N := 32) hx hb hts in_X0 hown hK hP 0 xk_this rfl 4 (by decide) (hts _ q637) (fun _ h => h) rfl dX0_takesOne_22 ?_
    refine lv_iconst (v := 0) hx hb dX0_takesOne_25 (by decide) ?_
    refine r_iald hx hb hK hP 8 0 xk_many rfl (f := many) 0 (nI_q 0) (by decide) (by decide) dX0_takesOne_26 ?_
    refine rn_ge (tgt := 115) hx hb dX0_takesOne_27 (by decide) rfl (hM 0 (by omega)).1 (by omega) (by omega) (fun c_1 => ?_) (fun c_1 => absurd c_1 (by omega))
    exact hex _ (lv_sub hl [0, 1, 2, 3, 4] rfl)
  | succ n ih =>
    intro i hlo hi ls hl hex
    have hlt : i < (nK many 0) := by omega
    refine lv_iload hx hb dX0_takesOne_19 (lv_at hl 4 rfl) ?_
    refine lv_aload_n hx hb dX0_takesOne_21 rfl (lv_at hl 0 rfl) ?_
    refine va_get (D := G) (ci := 0) (C := RX0) (T := TX0) (N := 32) hx hb hts in_X0 hown hK hP 0 xk_this rfl 4 (by decide) (hts _ q637) (fun _ h => h) rfl dX0_takesOne_22 ?_
    refine lv_iconst (v := 0) hx hb dX0_takesOne_25 (by decide) ?_
    refine r_iald hx hb hK hP 8 0 xk_many rfl (f := many) 0 (nI_q 0) (by decide) (by decide) dX0_takesOne_26 ?_
    refine rn_ge (tgt := 115) hx hb dX0_takesOne_27 (by decide) rfl (hM 0 (by omega)).1 (by omega) (by omega) (fun c_1 => absurd c_1 (by omega)) (fun c_1 => ?_)
    refine lv_aload_n hx hb dX0_takesOne_30 rfl (lv_at hl 0 rfl) ?_
    refine va_get (D := G) (ci := 0) (C := RX0) (T := TX0) (N := 32) hx hb hts in_X0 hown hK hP 0 xk_this rfl 16 (by decide) (hts _ q649) (fun _ h => h) rfl dX0_takesOne_31 ?_
    refine lv_iload_n hx hb dX0_takesOne_34 rfl (lv_at hl 3 rfl) ?_
    refine r_iald hx hb hK hP 23 0 xk_takenStar rfl (f := takenStar) pp rfl (by omega) (by decide) dX0_takesOne_35 ?_
    refine lv_iconst (v := (-1)) hx hb dX0_takesOne_36 (by decide) ?_
    refine lv_icmp_ne (tgt := 115) hx hb dX0_takesOne_37 (by decide) (fun c_2 => (c_2 hst).elim) (fun c_2 => ?_)
    refine lv_aload_n hx hb dX0_takesOne_40 rfl (lv_at hl 0 rfl) ?_
    refine va_get (D := G) (ci := 0) (C := RX0) (T := TX0) (N := 32) hx hb hts in_X0 hown hK hP 0 xk_this rfl 11 (by decide) (hts _ q644) (fun _ h => h) rfl dX0_takesOne_41 ?_
    refine lv_iload_n hx hb dX0_takesOne_44 rfl (lv_at hl 3 rfl) ?_
    refine xq_aald (r := .ref (a (14 + pp))) hx hb hK hP 13 11 xk_votes rfl rfl pp rfl (by omega) (by decide) rfl dX0_takesOne_45 ?_
    refine lv_iload hx hb dX0_takesOne_46 (lv_at hl 4 rfl) ?_
    refine r_iald hx hb hK hP (14 + pp) 0 (xr_votes (by omega)) rfl i rfl (by omega) (by decide) dX0_takesOne_48 ?_
    refine r_top (y := (votes (12 * pp + i))) rfl ?_
    refine lv_aload_n hx hb dX0_takesOne_49 rfl (lv_at hl 0 rfl) ?_
    refine va_get (D := G) (ci := 0) (C := RX0) (T := TX0) (N := 32) hx hb hts in_X0 hown hK hP 0 xk_this rfl 5 (by decide) (hts _ q638) (fun _ h => h) rfl dX0_takesOne_50 ?_
    refine lv_iconst (v := 2) hx hb dX0_takesOne_53 (by decide) ?_
    refine r_iald hx hb hK hP 9 0 xk_settings rfl (f := settings) 2 (nI_q 2) (by decide) (by decide) dX0_takesOne_54 ?_
    refine lv_icmp_lt (tgt := 71) hx hb dX0_takesOne_55 (by decide) (fun c_3 => ?_) (fun c_3 => ?_)
    · have c_3 := Int32.not_le.mpr c_3
      refine lv_iconst (v := 0) hx hb dX0_takesOne_71 (by decide) ?_
      refine lv_istore (lv' := [(5, .int 0), (0, .ref (a 0)), (1, .int ((onQ votes (settings 2) takenStar pp i s0).1)), (2, .int ((onQ votes (settings 2) takenStar pp i s0).2)), (3, .int (nI pp)), (4, .int (nI i))]) hx hb dX0_takesOne_72 hl (by decide) rfl (fun ls hl => ?_)
      refine lv_iload hx hb dX0_takesOne_74 (lv_at hl 0 rfl) ?_
      refine lv_if_eq (tgt := 109) hx hb dX0_takesOne_76 (by decide) (fun c_4 => ?_) (fun c_4 => absurd c_4 (by decide))
      refine lv_iinc (v := nI (i + 1)) (lv' := [(4, .int (nI (i + 1))), (5, .int 0), (0, .ref (a 0)), (1, .int ((onQ votes (settings 2) takenStar pp i s0).1)), (2, .int ((onQ votes (settings 2) takenStar pp i s0).2)), (3, .int (nI pp))]) hx hb dX0_takesOne_109 hl (k := 5) rfl (iinc_nI rfl) (by decide) rfl (fun ls hl => ?_)
      refine lv_goto (tgt := 19) hx hb dX0_takesOne_112 (by decide) ?_
      have e5 : (onQ votes (settings 2) takenStar pp (i + 1) s0) = (onQ votes (settings 2) takenStar pp i s0) := by rw [onQ_s]; unfold oneS; (first | rw [if_pos c_3] | rw [if_neg c_3])
      exact ih (i + 1) (by omega) (by omega) _ (by rw [e5]; exact lv_sub hl [2, 3, 4, 5, 0] rfl) hex
    · have c_3 := Int32.not_lt.mp c_3
      refine lv_aload_n hx hb dX0_takesOne_58 rfl (lv_at hl 0 rfl) ?_
      refine lv_iload hx hb dX0_takesOne_59 (lv_at hl 4 rfl) ?_
      refine vp_callSi (W.runV (As := [.int (nI i)]) (rest := []) ⟨hx, hb, hml, hown, hts⟩ (mx_isFree l G t A a cs K many settings isVoted lotsNow seen keyOne keyTwo votes looked matched without trio takenStar takenAs takenSpot pairs starArms spotArms isTurn places byStar byFar one usedNow laidMany finding dir (nI i)) (cwV 1 hts (lw_V q317 q319 qs18 q80 q320) rfl rfl rfl cd_X0_isFree ⟨Nat.le_of_ble_eq_true rfl, Nat.le_of_ble_eq_true rfl⟩) ⟨xPr_fb, x_recv hP hK, fun U hU hW => ⟨rfl, xPr_of hP hK hD hS hA hE hU hW⟩⟩ rfl rfl hl.1 rfl (lv_room (Nat.le_of_ble_eq_true rfl)) dX0_takesOne_61 ⟨Nat.le_of_ble_eq_true rfl, Nat.le_of_ble_eq_true rfl⟩) (fun r hr => ?_)
      subst hr
      refine rb_eq (tgt := 71) hx hb dX0_takesOne_64 (by decide) (fun c_5 => ?_) (fun c_5 => ?_)
      · refine lv_iconst (v := 0) hx hb dX0_takesOne_71 (by decide) ?_
        refine lv_istore (lv' := [(5, .int 0), (0, .ref (a 0)), (1, .int ((onQ votes (settings 2) takenStar pp i s0).1)), (2, .int ((onQ votes (settings 2) takenStar pp i s0).2)), (3, .int (nI pp)), (4, .int (nI i))]) hx hb dX0_takesOne_72 hl (by decide) rfl (fun ls hl => ?_)
        refine lv_iload hx hb dX0_takesOne_74 (lv_at hl 0 rfl) ?_
        refine lv_if_eq (tgt := 109) hx hb dX0_takesOne_76 (by decide) (fun c_6 => ?_) (fun c_6 => absurd c_6 (by decide))
        refine lv_iinc (v := nI (i + 1)) (lv' := [(4, .int (nI (i + 1))), (5, .int 0), (0, .ref (a 0)), (1, .int ((onQ votes (settings 2) takenStar pp i s0).1)), (2, .int ((onQ votes (settings 2) takenStar pp i s0).2)), (3, .int (nI pp))]) hx hb dX0_takesOne_109 hl (k := 5) rfl (iinc_nI rfl) (by decide) rfl (fun ls hl => ?_)
        refine lv_goto (tgt := 19) hx hb dX0_takesOne_112 (by decide) ?_
        have e5 : (onQ votes (settings 2) takenStar pp (i + 1) s0) = (onQ votes (settings 2) takenStar pp i s0) := by rw [onQ_s]; unfold oneS; (first | rw [if_pos c_3] | rw [if_neg c_3]); (first | rw [if_pos c_5] | rw [if_neg c_5])
        exact ih (i + 1) (by omega) (by omega) _ (by rw [e5]; exact lv_sub hl [2, 3, 4, 5, 0] rfl) hex
      · refine lv_iconst (v := 1) hx hb dX0_takesOne_67 (by decide) ?_
        refine lv_goto (tgt := 72) hx hb dX0_takesOne_68 (by decide) ?_
        refine lv_istore (lv' := [(5, .int 1), (0, .ref (a 0)), (1, .int ((onQ votes (settings 2) takenStar pp i s0).1)), (2, .int ((onQ votes (settings 2) takenStar pp i s0).2)), (3, .int (nI pp)), (4, .int (nI i))]) hx hb dX0_takesOne_72 hl (by decide) rfl (fun ls hl => ?_)
        refine lv_iload hx hb dX0_takesOne_74 (lv_at hl 0 rfl) ?_
        refine lv_if_eq (tgt := 109) hx hb dX0_takesOne_76 (by decide) (fun c_7 => absurd c_7 (by decide)) (fun c_7 => ?_)
        refine lv_iload_n hx hb dX0_takesOne_79 rfl (lv_at hl 2 rfl) ?_
        refine lv_iconst (v := (-1)) hx hb dX0_takesOne_80 (by decide) ?_
        refine lv_icmp_eq (tgt := 104) hx hb dX0_takesOne_81 (by decide) (fun c_8 => ?_) (fun c_8 => ?_)
        · refine lv_iload_n hx hb dX0_takesOne_104 rfl (lv_at hl 4 rfl) ?_
          refine lv_istore_n (lv' := [(1, .int (nI pp)), (5, .int 1), (0, .ref (a 0)), (2, .int ((onQ votes (settings 2) takenStar pp i s0).2)), (3, .int (nI pp)), (4, .int (nI i))]) hx hb dX0_takesOne_105 rfl hl (by decide) rfl (fun ls hl => ?_)
          refine lv_iload hx hb dX0_takesOne_106 (lv_at hl 5 rfl) ?_
          refine lv_istore_n (lv' := [(2, .int (nI i)), (1, .int (nI pp)), (5, .int 1), (0, .ref (a 0)), (3, .int (nI pp)), (4, .int (nI i))]) hx hb dX0_takesOne_108 rfl hl (by decide) rfl (fun ls hl => ?_)
          refine lv_iinc (v := nI (i + 1)) (lv' := [(4, .int (nI (i + 1))), (2, .int (nI i)), (1, .int (nI pp)), (5, .int 1), (0, .ref (a 0)), (3, .int (nI pp))]) hx hb dX0_takesOne_109 hl (k := 5) rfl (iinc_nI rfl) (by decide) rfl (fun ls hl => ?_)
          refine lv_goto (tgt := 19) hx hb dX0_takesOne_112 (by decide) ?_
          have e5 : (onQ votes (settings 2) takenStar pp (i + 1) s0) = (nI pp, nI i) := by rw [onQ_s]; unfold oneS; (first | rw [if_pos c_3] | rw [if_neg c_3]); (first | rw [if_pos c_5] | rw [if_neg c_5]); (first | rw [if_pos c_8] | rw [if_neg c_8])
          exact ih (i + 1) (by omega) (by omega) _ (by rw [e5]; exact lv_sub hl [4, 2, 1, 5, 0] rfl) hex
        · have hbn := onQ_ok (v := votes) (few := (settings 2)) (n := i) hp8 hst hok (by omega) c_8
          have hb8 := hbn.2.1
          have hb12 := hbn.2.2.2.1
          refine lv_aload_n hx hb dX0_takesOne_84 rfl (lv_at hl 1 rfl) ?_
          refine va_get (D := G) (ci := 0) (C := RX0) (T := TX0) (N := 32) hx hb hts in_X0 hown hK hP 0 xk_this rfl 11 (by decide) (hts _ q644) (fun _ h => h) rfl dX0_takesOne_85 ?_
          refine lv_iload_n hx hb dX0_takesOne_88 rfl (lv_at hl 4 rfl) ?_
          refine xq_aald (r := .ref (a (14 + pp))) hx hb hK hP 13 11 xk_votes rfl rfl pp rfl (by omega) (by decide) rfl dX0_takesOne_89 ?_
          refine lv_iload hx hb dX0_takesOne_90 (lv_at hl 5 rfl) ?_
          refine r_iald hx hb hK hP (14 + pp) 0 (xr_votes (by omega)) rfl i rfl (by omega) (by decide) dX0_takesOne_92 ?_
          refine r_top (y := (votes (12 * pp + i))) rfl ?_
          refine lv_aload_n hx hb dX0_takesOne_93 rfl (lv_at hl 1 rfl) ?_
          refine va_get (D := G) (ci := 0) (C := RX0) (T := TX0) (N := 32) hx hb hts in_X0 hown hK hP 0 xk_this rfl 11 (by decide) (hts _ q644) (fun _ h => h) rfl dX0_takesOne_94 ?_
          refine lv_iload_n hx hb dX0_takesOne_97 rfl (lv_at hl 2 rfl) ?_
          refine xq_aald (r := .ref (a (14 + ((onQ votes (settings 2) takenStar pp i s0).1.toNatClampNeg)))) hx hb hK hP 13 11 xk_votes rfl rfl ((onQ votes (settings 2) takenStar pp i s0).1.toNatClampNeg) hbn.1 (by omega) (by decide) rfl dX0_takesOne_98 ?_
          refine lv_iload_n hx hb dX0_takesOne_99 rfl (lv_at hl 3 rfl) ?_
          refine r_iald hx hb hK hP (14 + ((onQ votes (settings 2) takenStar pp i s0).1.toNatClampNeg)) 0 (xr_votes (by omega)) rfl ((onQ votes (settings 2) takenStar pp i s0).2.toNatClampNeg) hbn.2.2.1 (by omega) (by decide) dX0_takesOne_100 ?_
          refine r_top (y := (votes (12 * ((onQ votes (settings 2) takenStar pp i s0).1.toNatClampNeg) + ((onQ votes (settings 2) takenStar pp i s0).2.toNatClampNeg)))) rfl ?_
          refine lv_icmp_le (tgt := 109) hx hb dX0_takesOne_101 (by decide) (fun c_9 => ?_) (fun c_9 => ?_)
          · have c_9 := Int32.not_lt.mpr c_9
            refine lv_iinc (v := nI (i + 1)) (lv' := [(4, .int (nI (i + 1))), (5, .int 1), (0, .ref (a 0)), (1, .int ((onQ votes (settings 2) takenStar pp i s0).1)), (2, .int ((onQ votes (settings 2) takenStar pp i s0).2)), (3, .int (nI pp))]) hx hb dX0_takesOne_109 hl (k := 5) rfl (iinc_nI rfl) (by decide) rfl (fun ls hl => ?_)
            refine lv_goto (tgt := 19) hx hb dX0_takesOne_112 (by decide) ?_
            have e5 : (onQ votes (settings 2) takenStar pp (i + 1) s0) = (onQ votes (settings 2) takenStar pp i s0) := by rw [onQ_s]; unfold oneS; (first | rw [if_pos c_3] | rw [if_neg c_3]); (first | rw [if_pos c_5] | rw [if_neg c_5]); (first | rw [if_pos c_8] | rw [if_neg c_8]); (first | rw [if_pos c_9] | rw [if_neg c_9])
            exact ih (i + 1) (by omega) (by omega) _ (by rw [e5]; exact lv_sub hl [2, 3, 4, 5, 0] rfl) hex
          · have c_9 := Int32.not_le.mp c_9
            refine lv_iload_n hx hb dX0_takesOne_104 rfl (lv_at hl 4 rfl) ?_
            refine lv_istore_n (lv' := [(1, .int (nI pp)), (5, .int 1), (0, .ref (a 0)), (2, .int ((onQ votes (settings 2) takenStar pp i s0).2)), (3, .int (nI pp)), (4, .int (nI i))]) hx hb dX0_takesOne_105 rfl hl (by decide) rfl (fun ls hl => ?_)
            refine lv_iload hx hb dX0_takesOne_106 (lv_at hl 5 rfl) ?_
            refine lv_istore_n (lv' := [(2, .int (nI i)), (1, .int (nI pp)), (5, .int 1), (0, .ref (a 0)), (3, .int (nI pp)), (4, .int (nI i))]) hx hb dX0_takesOne_108 rfl hl (by decide) rfl (fun ls hl => ?_)
            refine lv_iinc (v := nI (i + 1)) (lv' := [(4, .int (nI (i + 1))), (2, .int (nI i)), (1, .int (nI pp)), (5, .int 1), (0, .ref (a 0)), (3, .int (nI pp))]) hx hb dX0_takesOne_109 hl (k := 5) rfl (iinc_nI rfl) (by decide) rfl (fun ls hl => ?_)
            refine lv_goto (tgt := 19) hx hb dX0_takesOne_112 (by decide) ?_
            have e5 : (onQ votes (settings 2) takenStar pp (i + 1) s0) = (nI pp, nI i) := by rw [onQ_s]; unfold oneS; (first | rw [if_pos c_3] | rw [if_neg c_3]); (first | rw [if_pos c_5] | rw [if_neg c_5]); (first | rw [if_pos c_8] | rw [if_neg c_8]); (first | rw [if_pos c_9] | rw [if_neg c_9])
            exact ih (i + 1) (by omega) (by omega) _ (by rw [e5]; exact lv_sub hl [4, 2, 1, 5, 0] rfl) hex

set_option maxHeartbeats 4000000 in
theorem lx_oneP {p : Program} {l : Launch} {e : Env} {s : State} {m : MethodId} {args : Array Value} {below : List Frame} {meth : Method} {c : Code} {Q : State → Prop} {H0 : Heap} (G : va_G) (t : Nat → ClassId) (A : Nat → Prop) (a : Nat → Nat) (cs : Nat → ClassId) (K : XK) (many : (Nat → Int32)) (settings : (Nat → Int32)) (isVoted : Int32) (lotsNow : Int32) (seen : (Nat → Int32)) (keyOne : (Nat → Int32)) (keyTwo : (Nat → Int32)) (votes : (Nat → Int32)) (looked : Int32) (matched : Int32) (without : Int32) (trio : (Nat → Int32)) (takenStar : (Nat → Int32)) (takenAs : (Nat → Int32)) (takenSpot : (Nat → Int32)) (pairs : Int32) (starArms : (Nat → Int64)) (spotArms : (Nat → Int64)) (isTurn : Int32) (places : (Nat → Int32)) (byStar : (Nat → Int32)) (byFar : (Nat → Int32)) (one : (Nat → Int64)) (usedNow : (Nat → Int32)) (laidMany : (Nat → Int32)) (finding : Int32) (dir : (Nat → Int32)) (hM : Mok many) (h0 : nK many 0 ≤ 12) (h8 : nK many 1 ≤ 8) (hx : p.tables.exec = Jvm.exec) (hb : c.code = cX0_takesOne) (hml : c.maxLocals = 6) (hown : s.vm.findClass RX0 = some m.cls) (hts : ∀ w ∈ lw_all, w.before args s = true) (hK : va_K G vwCl (Tys t) s) (hD : XD A a K.L) (hA : ∀ q, H0.size ≤ q → A q) (hE : xE A a cs s H0) {H : Heap} {locs : List Loc} (hP : va_P G vwCl (Xx t a K many settings isVoted lotsNow seen keyOne keyTwo votes looked matched without trio takenStar takenAs takenSpot pairs starArms spotArms isTurn places byStar byFar one usedNow laidMany finding) H) (hS : va_S A H0 H locs) : ∀ (n i : Nat), 0 ≤ i → i + n = (nK many 1) → ∀ (ls : Array Slot), lv_has ls 6 [(0, .ref (a 0)), (1, .int ((oneP votes (settings 2) takenStar (nK many 0) i).1)), (2, .int ((oneP votes (settings 2) takenStar (nK many 0) i).2)), (3, .int (nI i))] → (∀ (ls : Array Slot), lv_has ls 6 [(0, .ref (a 0)), (1, .int ((oneP votes (settings 2) takenStar (nK many 0) (nK many 1)).1)), (2, .int ((oneP votes (settings 2) takenStar (nK many 0) (nK many 1)).2)), (3, .int (nI (nK many 1)))] → W p l e (rm_ 0 1 0 0) s m args below meth c H locs 0 0 Q (F0 m 121 ls [])) → W p l e (rm_ 0 1 0 0) s m args below meth c H locs 0 0 Q (F0 m 6 ls []) := by
  intro n
  induction n with
  | zero =>
    intro i hlo hi ls hl hex
    have hie : i = (nK many 1) := by omega
    subst hie
    refine lv_iload_n hx hb dX0_takesOne_6 rfl (lv_at hl 3 rfl) ?_
    refine lv_aload_n hx hb dX0_takesOne_7 rfl (lv_at hl 0 rfl) ?_
    refine va_get (D := G) (ci := 0) (C := RX0) (T := TX0) (N := 32) hx hb hts in_X0 hown hK hP 0 xk_this rfl 4 (by decide) (hts _ q637) (fun _ h => h) rfl dX0_takesOne_8 ?_
    refine lv_iconst (v := 1) hx hb dX0_takesOne_11 (by decide) ?_
    refine r_iald hx hb hK hP 8 0 xk_many rfl (f := many) 1 (nI_q 1) (by decide) (by decide) dX0_takesOne_12 ?_
    refine rn_ge (tgt := 121) hx hb dX0_takesOne_13 (by decide) rfl (hM 1 (by omega)).1 (by omega) (by omega) (fun c_1 => ?_) (fun c_1 => absurd c_1 (by omega))
    exact hex _ (lv_sub hl [0, 1, 2, 3] rfl)
  | succ n ih =>
    intro i hlo hi ls hl hex
    have hlt : i < (nK many 1) := by omega
    refine lv_iload_n hx hb dX0_takesOne_6 rfl (lv_at hl 3 rfl) ?_
    refine lv_aload_n hx hb dX0_takesOne_7 rfl (lv_at hl 0 rfl) ?_
    refine va_get (D := G) (ci := 0) (C := RX0) (T := TX0) (N := 32) hx hb hts in_X0 hown hK hP 0 xk_this rfl 4 (by decide) (hts _ q637) (fun _ h => h) rfl dX0_takesOne_8 ?_
    refine lv_iconst (v := 1) hx hb dX0_takesOne_11 (by decide) ?_
    refine r_iald hx hb hK hP 8 0 xk_many rfl (f := many) 1 (nI_q 1) (by decide) (by decide) dX0_takesOne_12 ?_
    refine rn_ge (tgt := 121) hx hb dX0_takesOne_13 (by decide) rfl (hM 1 (by omega)).1 (by omega) (by omega) (fun c_1 => absurd c_1 (by omega)) (fun c_1 => ?_)
    refine lv_iconst (v := 0) hx hb dX0_takesOne_16 (by decide) ?_
    refine lv_istore (lv' := [(4, .int 0), (0, .ref (a 0)), (1, .int ((oneP votes (settings 2) takenStar (nK many 0) i).1)), (2, .int ((oneP votes (settings 2) takenStar (nK many 0) i).2)), (3, .int (nI i))]) hx hb dX0_takesOne_17 hl (by decide) rfl (fun ls hl => ?_)
    by_cases hst : takenStar i = -1
    · refine lx_oneQ G t A a cs K many settings isVoted lotsNow seen keyOne keyTwo votes looked matched without trio takenStar takenAs takenSpot pairs starArms spotArms isTurn places byStar byFar one usedNow laidMany finding dir i (oneP votes (settings 2) takenStar (nK many 0) i) hM (by omega) (by omega) hst (oneP_ok h0 i (by omega)) hx hb hml hown hts hK hD hA hE hP hS ((nK many 0) - 0) 0 (by omega) (by omega) _ (by rw [onQ_0]; exact lv_sub hl [1, 2, 3, 4, 0] rfl) (fun ls hl => ?_)
      refine lv_iinc (v := nI (i + 1)) (lv' := [(3, .int (nI (i + 1))), (0, .ref (a 0)), (1, .int ((onQ votes (settings 2) takenStar i (nK many 0) (oneP votes (settings 2) takenStar (nK many 0) i)).1)), (2, .int ((onQ votes (settings 2) takenStar i (nK many 0) (oneP votes (settings 2) takenStar (nK many 0) i)).2)), (4, .int (nI (nK many 0)))]) hx hb dX0_takesOne_115 hl (k := 3) rfl (iinc_nI rfl) (by decide) rfl (fun ls hl => ?_)
      refine lv_goto (tgt := 6) hx hb dX0_takesOne_118 (by decide) ?_
      have e6 : (oneP votes (settings 2) takenStar (nK many 0) (i + 1)) = (onQ votes (settings 2) takenStar i (nK many 0) (oneP votes (settings 2) takenStar (nK many 0) i)) := by rw [oneP_s]; unfold oneI; rw [if_pos hst]
      exact ih (i + 1) (by omega) (by omega) _ (by rw [e6]; exact lv_sub hl [1, 2, 3, 0] rfl) hex
    · refine lv_iload hx hb dX0_takesOne_19 (lv_at hl 0 rfl) ?_
      refine lv_aload_n hx hb dX0_takesOne_21 rfl (lv_at hl 1 rfl) ?_
      refine va_get (D := G) (ci := 0) (C := RX0) (T := TX0) (N := 32) hx hb hts in_X0 hown hK hP 0 xk_this rfl 4 (by decide) (hts _ q637) (fun _ h => h) rfl dX0_takesOne_22 ?_
      refine lv_iconst (v := 0) hx hb dX0_takesOne_25 (by decide) ?_
      refine r_iald hx hb hK hP 8 0 xk_many rfl (f := many) 0 (nI_q 0) (by decide) (by decide) dX0_takesOne_26 ?_
      refine rn_ge (tgt := 115) hx hb dX0_takesOne_27 (by decide) (nI_q 0) (hM 0 (by omega)).1 (by omega) (by omega) (fun c_2 => ?_) (fun c_2 => ?_)
      · refine lv_iinc (v := nI (i + 1)) (lv' := [(3, .int (nI (i + 1))), (4, .int 0), (0, .ref (a 0)), (1, .int ((oneP votes (settings 2) takenStar (nK many 0) i).1)), (2, .int ((oneP votes (settings 2) takenStar (nK many 0) i).2))]) hx hb dX0_takesOne_115 hl (k := 4) rfl (iinc_nI rfl) (by decide) rfl (fun ls hl => ?_)
        refine lv_goto (tgt := 6) hx hb dX0_takesOne_118 (by decide) ?_
        have e6 : (oneP votes (settings 2) takenStar (nK many 0) (i + 1)) = (oneP votes (settings 2) takenStar (nK many 0) i) := by rw [oneP_s]; unfold oneI; rw [if_neg hst]
        exact ih (i + 1) (by omega) (by omega) _ (by rw [e6]; exact lv_sub hl [2, 3, 4, 0] rfl) hex
      · refine lv_aload_n hx hb dX0_takesOne_30 rfl (lv_at hl 1 rfl) ?_
        refine va_get (D := G) (ci := 0) (C := RX0) (T := TX0) (N := 32) hx hb hts in_X0 hown hK hP 0 xk_this rfl 16 (by decide) (hts _ q649) (fun _ h => h) rfl dX0_takesOne_31 ?_
        refine lv_iload_n hx hb dX0_takesOne_34 rfl (lv_at hl 4 rfl) ?_
        refine r_iald hx hb hK hP 23 0 xk_takenStar rfl (f := takenStar) i rfl (by omega) (by decide) dX0_takesOne_35 ?_
        refine lv_iconst (v := (-1)) hx hb dX0_takesOne_36 (by decide) ?_
        refine lv_icmp_ne (tgt := 115) hx hb dX0_takesOne_37 (by decide) (fun c_3 => ?_) (fun c_3 => (hst c_3).elim)
        refine lv_iinc (v := nI (i + 1)) (lv' := [(3, .int (nI (i + 1))), (4, .int 0), (0, .ref (a 0)), (1, .int ((oneP votes (settings 2) takenStar (nK many 0) i).1)), (2, .int ((oneP votes (settings 2) takenStar (nK many 0) i).2))]) hx hb dX0_takesOne_115 hl (k := 4) rfl (iinc_nI rfl) (by decide) rfl (fun ls hl => ?_)
        refine lv_goto (tgt := 6) hx hb dX0_takesOne_118 (by decide) ?_
        have e6 : (oneP votes (settings 2) takenStar (nK many 0) (i + 1)) = (oneP votes (settings 2) takenStar (nK many 0) i) := by rw [oneP_s]; unfold oneI; rw [if_neg hst]
        exact ih (i + 1) (by omega) (by omega) _ (by rw [e6]; exact lv_sub hl [2, 3, 4, 0] rfl) hex

set_option maxHeartbeats 4000000 in
theorem mx_takesOne (l : Launch) (G : va_G) (t : Nat → ClassId) (A : Nat → Prop) (a : Nat → Nat) (cs : Nat → ClassId) (K : XK) (many : (Nat → Int32)) (settings : (Nat → Int32)) (isVoted : Int32) (lotsNow : Int32) (seen : (Nat → Int32)) (keyOne : (Nat → Int32)) (keyTwo : (Nat → Int32)) (votes : (Nat → Int32)) (looked : Int32) (matched : Int32) (without : Int32) (trio : (Nat → Int32)) (starArms : (Nat → Int64)) (spotArms : (Nat → Int64)) (isTurn : Int32) (places : (Nat → Int32)) (byStar : (Nat → Int32)) (byFar : (Nat → Int32)) (one : (Nat → Int64)) (usedNow : (Nat → Int32)) (laidMany : (Nat → Int32)) (finding : Int32) (v0 : TX) (dir : (Nat → Int32)) (np : Nat) (hM : Mok many) (hp : v0.2.2.2 = nI np) (hn : ¬ (oneP votes (settings 2) v0.1 (nK many 0) (nK many 1)).1 = -1 → np < 8) : Met l yX0_takesOne (ws_ yX0_takesOne cX0_takesOne 6 (some .boolean)) (rm_ 0 1 0 0) (va_Pc [.ref (a 0)] (xPr G t A a cs K.L (Xx t a K many settings isVoted lotsNow seen keyOne keyTwo votes looked matched without trio v0.1 v0.2.1 v0.2.2.1 v0.2.2.2 starArms spotArms isTurn places byStar byFar one usedNow laidMany finding))) (va_Qi (fun rv (uv : TX) => rv = oneG votes (settings 2) (nK many 0) (nK many 1) v0 ∧ uv = oneT votes (settings 2) (nK many 0) (nK many 1) v0) (mB G (fun (uv : TX) => Xx t a K many settings isVoted lotsNow seen keyOne keyTwo votes looked matched without trio uv.1 uv.2.1 uv.2.2.1 uv.2.2.2 starArms spotArms isTurn places byStar byFar one usedNow laidMany finding)) A) 0 0 A := by
  refine mkx_W (by decide) (Nat.le_of_ble_eq_true rfl) ?_
  intro p e s m below meth c ls hx hb hml hr hlk hts hown hnm hv hl
  obtain ⟨hP, hK, hD, hA, hE⟩ := hv
  have hS : va_S A s.heap s.heap [] := va_S.rf
  have hl : lv_has ls 6 [(0, .ref (a 0))] := hl
  have h0 : nK many 0 ≤ 12 := (hM 0 (by omega)).2
  have h8 : nK many 1 ≤ 8 := (hM 1 (by omega)).2
  refine lv_iconst (v := (-1)) hx hb dX0_takesOne_0 (by decide) ?_
  refine lv_istore_n (lv' := [(1, .int (-1)), (0, .ref (a 0))]) hx hb dX0_takesOne_1 rfl hl (by decide) rfl (fun ls hl => ?_)
  refine lv_iconst (v := (-1)) hx hb dX0_takesOne_2 (by decide) ?_
  refine lv_istore_n (lv' := [(2, .int (-1)), (1, .int (-1)), (0, .ref (a 0))]) hx hb dX0_takesOne_3 rfl hl (by decide) rfl (fun ls hl => ?_)
  refine lv_iconst (v := 0) hx hb dX0_takesOne_4 (by decide) ?_
  refine lv_istore_n (lv' := [(3, .int 0), (2, .int (-1)), (1, .int (-1)), (0, .ref (a 0))]) hx hb dX0_takesOne_5 rfl hl (by decide) rfl (fun ls hl => ?_)
  refine lx_oneP G t A a cs K many settings isVoted lotsNow seen keyOne keyTwo votes looked matched without trio v0.1 v0.2.1 v0.2.2.1 v0.2.2.2 starArms spotArms isTurn places byStar byFar one usedNow laidMany finding dir hM (by omega) (by omega) hx hb hml hown hts hK hD hA hE hP hS ((nK many 1) - 0) 0 (by omega) (by omega) _ (by rw [oneP_0]; exact lv_sub hl [3, 2, 1, 0] rfl) (fun ls hl => ?_)
  refine lv_iload_n hx hb dX0_takesOne_121 rfl (lv_at hl 1 rfl) ?_
  refine lv_iconst (v := (-1)) hx hb dX0_takesOne_122 (by decide) ?_
  refine lv_icmp_ne (tgt := 128) hx hb dX0_takesOne_123 (by decide) (fun c_1 => ?_) (fun c_1 => ?_)
  · have hbn := oneP_ok (v := votes) (few := (settings 2)) h0 (nK many 1) h8 c_1
    have hb8 := hbn.2.1
    have hn8 := hn c_1
    have ep : v0.2.2.2.toNatClampNeg = np := by rw [hp]; exact tn_nI (by omega)
    refine lv_aload_n hx hb dX0_takesOne_128 rfl (lv_at hl 0 rfl) ?_
    refine va_get (D := G) (ci := 0) (C := RX0) (T := TX0) (N := 32) hx hb hts in_X0 hown hK hP 0 xk_this rfl 16 (by decide) (hts _ q649) (fun _ h => h) rfl dX0_takesOne_129 ?_
    refine lv_iload_n hx hb dX0_takesOne_132 rfl (lv_at hl 1 rfl) ?_
    refine lv_iload_n hx hb dX0_takesOne_133 rfl (lv_at hl 2 rfl) ?_
    refine r_iast hx hb hK hP (xD hD) hS 23 0 xk_takenStar rfl ((oneP votes (settings 2) v0.1 (nK many 0) (nK many 1)).1.toNatClampNeg) hbn.1 (by omega) (by decide) dX0_takesOne_134 (ws' := Xx t a K many settings isVoted lotsNow seen keyOne keyTwo votes looked matched without trio (upd v0.1 ((oneP votes (settings 2) v0.1 (nK many 0) (nK many 1)).1.toNatClampNeg) ((oneP votes (settings 2) v0.1 (nK many 0) (nK many 1)).2)) v0.2.1 v0.2.2.1 v0.2.2.2 starArms spotArms isTurn places byStar byFar one usedNow laidMany finding) (xs_takenStar _) (fun H locs hP hS => ?_)
    refine lv_aload_n hx hb dX0_takesOne_135 rfl (lv_at hl 0 rfl) ?_
    refine va_get (D := G) (ci := 0) (C := RX0) (T := TX0) (N := 32) hx hb hts in_X0 hown hK hP 0 xk_this rfl 17 (by decide) (hts _ q650) (fun _ h => h) rfl dX0_takesOne_136 ?_
    refine lv_iload_n hx hb dX0_takesOne_139 rfl (lv_at hl 1 rfl) ?_
    refine lv_aload_n hx hb dX0_takesOne_140 rfl (lv_at hl 0 rfl) ?_
    refine va_get (D := G) (ci := 0) (C := RX0) (T := TX0) (N := 32) hx hb hts in_X0 hown hK hP 0 xk_this rfl 19 (by decide) (hts _ q652) (fun _ h => h) rfl dX0_takesOne_141 ?_
    refine r_iast hx hb hK hP (xD hD) hS 24 0 xk_takenAs rfl ((oneP votes (settings 2) v0.1 (nK many 0) (nK many 1)).1.toNatClampNeg) hbn.1 (by omega) (by decide) dX0_takesOne_144 (ws' := Xx t a K many settings isVoted lotsNow seen keyOne keyTwo votes looked matched without trio (upd v0.1 ((oneP votes (settings 2) v0.1 (nK many 0) (nK many 1)).1.toNatClampNeg) ((oneP votes (settings 2) v0.1 (nK many 0) (nK many 1)).2)) (upd v0.2.1 ((oneP votes (settings 2) v0.1 (nK many 0) (nK many 1)).1.toNatClampNeg) v0.2.2.2) v0.2.2.1 v0.2.2.2 starArms spotArms isTurn places byStar byFar one usedNow laidMany finding) (xs_takenAs _) (fun H locs hP hS => ?_)
    refine lv_aload_n hx hb dX0_takesOne_145 rfl (lv_at hl 0 rfl) ?_
    refine va_get (D := G) (ci := 0) (C := RX0) (T := TX0) (N := 32) hx hb hts in_X0 hown hK hP 0 xk_this rfl 18 (by decide) (hts _ q651) (fun _ h => h) rfl dX0_takesOne_146 ?_
    refine lv_aload_n hx hb dX0_takesOne_149 rfl (lv_at hl 0 rfl) ?_
    refine va_get (D := G) (ci := 0) (C := RX0) (T := TX0) (N := 32) hx hb hts in_X0 hown hK hP 0 xk_this rfl 19 (by decide) (hts _ q652) (fun _ h => h) rfl dX0_takesOne_150 ?_
    refine lv_iload_n hx hb dX0_takesOne_153 rfl (lv_at hl 1 rfl) ?_
    refine r_iast hx hb hK hP (xD hD) hS 25 0 xk_takenSpot rfl np hp (by omega) (by decide) dX0_takesOne_154 (ws' := Xx t a K many settings isVoted lotsNow seen keyOne keyTwo votes looked matched without trio (upd v0.1 ((oneP votes (settings 2) v0.1 (nK many 0) (nK many 1)).1.toNatClampNeg) ((oneP votes (settings 2) v0.1 (nK many 0) (nK many 1)).2)) (upd v0.2.1 ((oneP votes (settings 2) v0.1 (nK many 0) (nK many 1)).1.toNatClampNeg) v0.2.2.2) (upd v0.2.2.1 np ((oneP votes (settings 2) v0.1 (nK many 0) (nK many 1)).1)) v0.2.2.2 starArms spotArms isTurn places byStar byFar one usedNow laidMany finding) (xs_takenSpot _) (fun H locs hP hS => ?_)
    refine lv_aload_n hx hb dX0_takesOne_155 rfl (lv_at hl 0 rfl) ?_
    refine lv_dup hx hb dX0_takesOne_156 rfl ?_
    refine va_get (D := G) (ci := 0) (C := RX0) (T := TX0) (N := 32) hx hb hts in_X0 hown hK hP 0 xk_this rfl 19 (by decide) (hts _ q652) (fun _ h => h) rfl dX0_takesOne_157 ?_
    refine lv_iconst (v := 1) hx hb dX0_takesOne_160 (by decide) ?_
    refine lv_iadd hx hb dX0_takesOne_161 ?_
    refine va_put (D := G) (ci := 0) (v := .int (v0.2.2.2 + 1)) (ty := .int) (C := RX0) (T := TX0) (N := 32) hx hb hts in_X0 tyX0 tyX0_ok nmX0 hown hK hP (xD hD) hS 0 xk_this rfl 19 (by decide) (hts _ q652) (fun _ h => h) rfl (by decide +kernel) rfl rfl (Nat.le_of_ble_eq_true rfl) dX0_takesOne_162 (fun H locs hP _ hS => ?_)
    have hP : va_P G vwCl (Xx t a K many settings isVoted lotsNow seen keyOne keyTwo votes looked matched without trio (upd v0.1 ((oneP votes (settings 2) v0.1 (nK many 0) (nK many 1)).1.toNatClampNeg) ((oneP votes (settings 2) v0.1 (nK many 0) (nK many 1)).2)) (upd v0.2.1 ((oneP votes (settings 2) v0.1 (nK many 0) (nK many 1)).1.toNatClampNeg) v0.2.2.2) (upd v0.2.2.1 np ((oneP votes (settings 2) v0.1 (nK many 0) (nK many 1)).1)) (v0.2.2.2 + 1) starArms spotArms isTurn places byStar byFar one usedNow laidMany finding) H := by rw [xs_pairs] at hP; exact hP
    refine lv_iconst (v := 1) hx hb dX0_takesOne_165 (by decide) ?_
    have hP : va_P G vwCl (Xx t a K many settings isVoted lotsNow seen keyOne keyTwo votes looked matched without trio ((oneT votes (settings 2) (nK many 0) (nK many 1) v0).1) ((oneT votes (settings 2) (nK many 0) (nK many 1) v0).2.1) ((oneT votes (settings 2) (nK many 0) (nK many 1) v0).2.2.1) ((oneT votes (settings 2) (nK many 0) (nK many 1) v0).2.2.2) starArms spotArms isTurn places byStar byFar one usedNow laidMany finding) H := by (unfold oneT; rw [if_neg c_1]; unfold asgX; rw [ep]; exact hP)
    exact W.zret (v := 1) hx hb hr rfl (fun tt ht _ => ⟨⟨_, (oneT votes (settings 2) (nK many 0) (nK many 1) v0), rfl, ⟨(by unfold oneG; rw [if_neg c_1]), rfl⟩, (show va_P G vwCl ((fun (uv : TX) => Xx t a K many settings isVoted lotsNow seen keyOne keyTwo votes looked matched without trio uv.1 uv.2.1 uv.2.2.1 uv.2.2.2 starArms spotArms isTurn places byStar byFar one usedNow laidMany finding) (oneT votes (settings 2) (nK many 0) (nK many 1) v0)) tt.heap from by rw [ht]; exact hP)⟩, hS.F ht⟩) hS.2.2 dX0_takesOne_166 hlk
  · refine lv_iconst (v := 0) hx hb dX0_takesOne_126 (by decide) ?_
    have hP : va_P G vwCl (Xx t a K many settings isVoted lotsNow seen keyOne keyTwo votes looked matched without trio ((oneT votes (settings 2) (nK many 0) (nK many 1) v0).1) ((oneT votes (settings 2) (nK many 0) (nK many 1) v0).2.1) ((oneT votes (settings 2) (nK many 0) (nK many 1) v0).2.2.1) ((oneT votes (settings 2) (nK many 0) (nK many 1) v0).2.2.2) starArms spotArms isTurn places byStar byFar one usedNow laidMany finding) s.heap := by (unfold oneT; rw [if_pos c_1]; exact hP)
    exact W.zret (v := 0) hx hb hr rfl (fun tt ht _ => ⟨⟨_, (oneT votes (settings 2) (nK many 0) (nK many 1) v0), rfl, ⟨(by unfold oneG; rw [if_pos c_1]), rfl⟩, (show va_P G vwCl ((fun (uv : TX) => Xx t a K many settings isVoted lotsNow seen keyOne keyTwo votes looked matched without trio uv.1 uv.2.1 uv.2.2.1 uv.2.2.2 starArms spotArms isTurn places byStar byFar one usedNow laidMany finding) (oneT votes (settings 2) (nK many 0) (nK many 1) v0)) tt.heap from by rw [ht]; exact hP)⟩, hS.F ht⟩) hS.2.2 dX0_takesOne_127 hlk

set_option maxHeartbeats 4000000 in
theorem lx_takes1 {p : Program} {l : Launch} {e : Env} {s : State} {m : MethodId} {args : Array Value} {below : List Frame} {meth : Method} {c : Code} {Q : State → Prop} {H0 : Heap} (G : va_G) (t : Nat → ClassId) (A : Nat → Prop) (a : Nat → Nat) (cs : Nat → ClassId) (K : XK) (many : (Nat → Int32)) (settings : (Nat → Int32)) (isVoted : Int32) (lotsNow : Int32) (seen : (Nat → Int32)) (keyOne : (Nat → Int32)) (keyTwo : (Nat → Int32)) (votes : (Nat → Int32)) (looked : Int32) (matched : Int32) (without : Int32) (trio : (Nat → Int32)) (takenStar : (Nat → Int32)) (takenAs : (Nat → Int32)) (takenSpot : (Nat → Int32)) (pairs : Int32) (starArms : (Nat → Int64)) (spotArms : (Nat → Int64)) (isTurn : Int32) (places : (Nat → Int32)) (byStar : (Nat → Int32)) (byFar : (Nat → Int32)) (one : (Nat → Int64)) (usedNow : (Nat → Int32)) (laidMany : (Nat → Int32)) (finding : Int32) (dir : (Nat → Int32)) (hx : p.tables.exec = Jvm.exec) (hb : c.code = cX0_takes) (hml : c.maxLocals = 2) (hown : s.vm.findClass RX0 = some m.cls) (hts : ∀ w ∈ lw_all, w.before args s = true) (hK : va_K G vwCl (Tys t) s) (hD : XD A a K.L) (hA : ∀ q, H0.size ≤ q → A q) (hE : xE A a cs s H0) : ∀ (n i : Nat), 0 ≤ i → i + n = 8 → ∀ (H : Heap) (locs : List Loc) (ls : Array Slot), va_P G vwCl (Xx t a K many settings isVoted lotsNow seen keyOne keyTwo votes looked matched without trio (noneF i takenStar) (noneF i takenAs) takenSpot pairs starArms spotArms isTurn places byStar byFar one usedNow laidMany finding) H → va_S A H0 H locs → lv_has ls 2 [(0, .ref (a 0)), (1, .int (nI i))] → (∀ (H : Heap) (locs : List Loc) (ls : Array Slot), va_P G vwCl (Xx t a K many settings isVoted lotsNow seen keyOne keyTwo votes looked matched without trio (noneF 8 takenStar) (noneF 8 takenAs) takenSpot pairs starArms spotArms isTurn places byStar byFar one usedNow laidMany finding) H → va_S A H0 H locs → lv_has ls 2 [(0, .ref (a 0)), (1, .int (nI 8))] → W p l e (rm_ 0 2 0 0) s m args below meth c H locs 0 0 Q (F0 m 33 ls [])) → W p l e (rm_ 0 2 0 0) s m args below meth c H locs 0 0 Q (F0 m 7 ls []) := by
  intro n
  induction n with
  | zero =>
    intro i hlo hi H locs ls hP hS hl hex
    have hie : i = 8 := by omega
    subst hie
    refine lv_iload_n hx hb dX0_takes_7 rfl (lv_at hl 1 rfl) ?_
    refine lv_bipush (v := 8) hx hb dX0_takes_8 (by decide) ?_
    refine rn_ge (tgt := 33) hx hb dX0_takes_10 (by decide) rfl (nI_q 8) (by omega) (by omega) (fun c_1 => ?_) (fun c_1 => absurd c_1 (by omega))
    exact hex _ _ _ hP hS (lv_sub hl [0, 1] rfl)
  | succ n ih =>
    intro i hlo hi H locs ls hP hS hl hex
    have hlt : i < 8 := by omega
    refine lv_iload_n hx hb dX0_takes_7 rfl (lv_at hl 1 rfl) ?_
    refine lv_bipush (v := 8) hx hb dX0_takes_8 (by decide) ?_
    refine rn_ge (tgt := 33) hx hb dX0_takes_10 (by decide) rfl (nI_q 8) (by omega) (by omega) (fun c_1 => absurd c_1 (by omega)) (fun c_1 => ?_)
    refine lv_aload_n hx hb dX0_takes_13 rfl (lv_at hl 0 rfl) ?_
    refine va_get (D := G) (ci := 0) (C := RX0) (T := TX0) (N := 32) hx hb hts in_X0 hown hK hP 0 xk_this rfl 16 (by decide) (hts _ q649) (fun _ h => h) rfl dX0_takes_14 ?_
    refine lv_iload_n hx hb dX0_takes_17 rfl (lv_at hl 1 rfl) ?_
    refine lv_iconst (v := (-1)) hx hb dX0_takes_18 (by decide) ?_
    refine r_iast hx hb hK hP (xD hD) hS 23 0 xk_takenStar rfl i rfl (by omega) (by decide) dX0_takes_19 (ws' := Xx t a K many settings isVoted lotsNow seen keyOne keyTwo votes looked matched without trio (upd (noneF i takenStar) i (-1)) (noneF i takenAs) takenSpot pairs starArms spotArms isTurn places byStar byFar one usedNow laidMany finding) (xs_takenStar _) (fun H locs hP hS => ?_)
    refine lv_aload_n hx hb dX0_takes_20 rfl (lv_at hl 0 rfl) ?_
    refine va_get (D := G) (ci := 0) (C := RX0) (T := TX0) (N := 32) hx hb hts in_X0 hown hK hP 0 xk_this rfl 17 (by decide) (hts _ q650) (fun _ h => h) rfl dX0_takes_21 ?_
    refine lv_iload_n hx hb dX0_takes_24 rfl (lv_at hl 1 rfl) ?_
    refine lv_iconst (v := (-1)) hx hb dX0_takes_25 (by decide) ?_
    refine r_iast hx hb hK hP (xD hD) hS 24 0 xk_takenAs rfl i rfl (by omega) (by decide) dX0_takes_26 (ws' := Xx t a K many settings isVoted lotsNow seen keyOne keyTwo votes looked matched without trio (upd (noneF i takenStar) i (-1)) (upd (noneF i takenAs) i (-1)) takenSpot pairs starArms spotArms isTurn places byStar byFar one usedNow laidMany finding) (xs_takenAs _) (fun H locs hP hS => ?_)
    refine lv_iinc (v := nI (i + 1)) (lv' := [(1, .int (nI (i + 1))), (0, .ref (a 0))]) hx hb dX0_takes_27 hl (k := 1) rfl (iinc_nI rfl) (by decide) rfl (fun ls hl => ?_)
    refine lv_goto (tgt := 7) hx hb dX0_takes_30 (by decide) ?_
    have hP : va_P G vwCl (Xx t a K many settings isVoted lotsNow seen keyOne keyTwo votes looked matched without trio (noneF (i + 1) takenStar) (noneF (i + 1) takenAs) takenSpot pairs starArms spotArms isTurn places byStar byFar one usedNow laidMany finding) H := by exact hP
    exact ih (i + 1) (by omega) (by omega) _ _ _ hP hS (lv_sub hl [1, 0] rfl) hex

set_option maxHeartbeats 4000000 in
theorem lx_takes2 {p : Program} {l : Launch} {e : Env} {s : State} {m : MethodId} {args : Array Value} {below : List Frame} {meth : Method} {c : Code} {Q : State → Prop} {H0 : Heap} (G : va_G) (t : Nat → ClassId) (A : Nat → Prop) (a : Nat → Nat) (cs : Nat → ClassId) (K : XK) (many : (Nat → Int32)) (settings : (Nat → Int32)) (isVoted : Int32) (lotsNow : Int32) (seen : (Nat → Int32)) (keyOne : (Nat → Int32)) (keyTwo : (Nat → Int32)) (votes : (Nat → Int32)) (looked : Int32) (matched : Int32) (without : Int32) (trio : (Nat → Int32)) (starArms : (Nat → Int64)) (spotArms : (Nat → Int64)) (isTurn : Int32) (places : (Nat → Int32)) (byStar : (Nat → Int32)) (byFar : (Nat → Int32)) (one : (Nat → Int64)) (usedNow : (Nat → Int32)) (laidMany : (Nat → Int32)) (finding : Int32) (dir : Nat → Int32) (hM : Mok many) (h0 : nK many 0 ≤ 12) (h8 : nK many 1 ≤ 8) (hx : p.tables.exec = Jvm.exec) (hb : c.code = cX0_takes) (hml : c.maxLocals = 2) (hown : s.vm.findClass RX0 = some m.cls) (hts : ∀ w ∈ lw_all, w.before args s = true) (hK : va_K G vwCl (Tys t) s) (hD : XD A a K.L) (hA : ∀ q, H0.size ≤ q → A q) (hE : xE A a cs s H0) : ∀ (f : Nat) (v0 : TX) (k : Nat), TxInv v0 k → freeN v0.1 8 ≤ f → ∀ (H : Heap) (locs : List Loc) (ls : Array Slot), va_P G vwCl (Xx t a K many settings isVoted lotsNow seen keyOne keyTwo votes looked matched without trio v0.1 v0.2.1 v0.2.2.1 v0.2.2.2 starArms spotArms isTurn places byStar byFar one usedNow laidMany finding) H → va_S A H0 H locs → lv_has ls 2 [(0, .ref (a 0)), (1, .int 1)] → (∀ (H : Heap) (locs : List Loc) (ls : Array Slot), va_P G vwCl (Xx t a K many settings isVoted lotsNow seen keyOne keyTwo votes looked matched without trio ((takesXL votes (settings 2) (nK many 0) (nK many 1) f v0).1) ((takesXL votes (settings 2) (nK many 0) (nK many 1) f v0).2.1) ((takesXL votes (settings 2) (nK many 0) (nK many 1) f v0).2.2.1) ((takesXL votes (settings 2) (nK many 0) (nK many 1) f v0).2.2.2) starArms spotArms isTurn places byStar byFar one usedNow laidMany finding) H → va_S A H0 H locs → lv_has ls 2 [(0, .ref (a 0))] → W p l e (rm_ 0 2 0 0) s m args below meth c H locs 0 0 Q (F0 m 47 ls [])) → W p l e (rm_ 0 2 0 0) s m args below meth c H locs 0 0 Q (F0 m 35 ls []) := by
  intro f
  induction f with
  | zero =>
    intro v0 k hI hf H locs ls hP hS hl hex
    have hbe : (oneP votes (settings 2) v0.1 (nK many 0) (nK many 1)).1 = -1 := one_none h0 h8 (by omega)
    refine lv_iload_n hx hb dX0_takes_35 rfl (lv_at hl 1 rfl) ?_
    refine lv_if_eq (tgt := 47) hx hb dX0_takes_36 (by decide) (fun c_1 => absurd c_1 (by decide)) (fun c_1 => ?_)
    refine lv_aload_n hx hb dX0_takes_39 rfl (lv_at hl 0 rfl) ?_
    refine va_calli (va_runV (As := []) (rest := []) ⟨hx, hb, hml, hown, hts⟩ (mx_takesOne l G t A a cs K many settings isVoted lotsNow seen keyOne keyTwo votes looked matched without trio starArms spotArms isTurn places byStar byFar one usedNow laidMany finding v0 dir k hM hI.1 (fun q => (txInv_s hI (oneP_ok h0 _ h8) q).2.1)) (cwV 0 hts (lw_V q313 q315 qs17 q80 q316) rfl rfl rfl cd_X0_takesOne ⟨Nat.le_of_ble_eq_true rfl, Nat.le_of_ble_eq_true rfl⟩) ⟨xPr_fb, x_recv hP hK, fun U hU hW => ⟨rfl, xPr_of hP hK hD hS hA hE hU hW⟩⟩ rfl rfl hl.1 rfl (lv_room (Nat.le_of_ble_eq_true rfl)) dX0_takes_40 ⟨Nat.le_of_ble_eq_true rfl, Nat.le_of_ble_eq_true rfl⟩) hS (fun _ _ h => h) (fun _ h => h) (fun r u tt H locs ht _ hq hP _ hkp hS => ?_)
    obtain ⟨rfl, rfl⟩ := hq
    have hP : va_P G vwCl (Xx t a K many settings isVoted lotsNow seen keyOne keyTwo votes looked matched without trio ((oneT votes (settings 2) (nK many 0) (nK many 1) v0).1) ((oneT votes (settings 2) (nK many 0) (nK many 1) v0).2.1) ((oneT votes (settings 2) (nK many 0) (nK many 1) v0).2.2.1) ((oneT votes (settings 2) (nK many 0) (nK many 1) v0).2.2.2) starArms spotArms isTurn places byStar byFar one usedNow laidMany finding) H := by rw [← ht]; exact hP
    refine r_top (y := 0) (by unfold oneG; rw [if_pos hbe]) ?_
    have et : oneT votes (settings 2) (nK many 0) (nK many 1) v0 = v0 := by unfold oneT; rw [if_pos hbe]
    rw [et] at hP
    refine lv_istore_n (lv' := [(1, .int 0), (0, .ref (a 0))]) hx hb dX0_takes_43 rfl hl (by decide) rfl (fun ls hl => ?_)
    refine lv_goto (tgt := 35) hx hb dX0_takes_44 (by decide) ?_
    refine lv_iload_n hx hb dX0_takes_35 rfl (lv_at hl 0 rfl) ?_
    refine lv_if_eq (tgt := 47) hx hb dX0_takes_36 (by decide) (fun c_2 => ?_) (fun c_2 => absurd c_2 (by decide))
    have e0 : takesXL votes (settings 2) (nK many 0) (nK many 1) 0 v0 = v0 := by rfl
    exact hex _ _ _ (by rw [e0]; exact hP) hS (lv_sub hl [1] rfl)
  | succ f ih =>
    intro v0 k hI hf H locs ls hP hS hl hex
    by_cases hbe : (oneP votes (settings 2) v0.1 (nK many 0) (nK many 1)).1 = -1
    · refine lv_iload_n hx hb dX0_takes_35 rfl (lv_at hl 1 rfl) ?_
      refine lv_if_eq (tgt := 47) hx hb dX0_takes_36 (by decide) (fun c_1 => absurd c_1 (by decide)) (fun c_1 => ?_)
      refine lv_aload_n hx hb dX0_takes_39 rfl (lv_at hl 0 rfl) ?_
      refine va_calli (va_runV (As := []) (rest := []) ⟨hx, hb, hml, hown, hts⟩ (mx_takesOne l G t A a cs K many settings isVoted lotsNow seen keyOne keyTwo votes looked matched without trio starArms spotArms isTurn places byStar byFar one usedNow laidMany finding v0 dir k hM hI.1 (fun q => (txInv_s hI (oneP_ok h0 _ h8) q).2.1)) (cwV 0 hts (lw_V q313 q315 qs17 q80 q316) rfl rfl rfl cd_X0_takesOne ⟨Nat.le_of_ble_eq_true rfl, Nat.le_of_ble_eq_true rfl⟩) ⟨xPr_fb, x_recv hP hK, fun U hU hW => ⟨rfl, xPr_of hP hK hD hS hA hE hU hW⟩⟩ rfl rfl hl.1 rfl (lv_room (Nat.le_of_ble_eq_true rfl)) dX0_takes_40 ⟨Nat.le_of_ble_eq_true rfl, Nat.le_of_ble_eq_true rfl⟩) hS (fun _ _ h => h) (fun _ h => h) (fun r u tt H locs ht _ hq hP _ hkp hS => ?_)
      obtain ⟨rfl, rfl⟩ := hq
      have hP : va_P G vwCl (Xx t a K many settings isVoted lotsNow seen keyOne keyTwo votes looked matched without trio ((oneT votes (settings 2) (nK many 0) (nK many 1) v0).1) ((oneT votes (settings 2) (nK many 0) (nK many 1) v0).2.1) ((oneT votes (settings 2) (nK many 0) (nK many 1) v0).2.2.1) ((oneT votes (settings 2) (nK many 0) (nK many 1) v0).2.2.2) starArms spotArms isTurn places byStar byFar one usedNow laidMany finding) H := by rw [← ht]; exact hP
      refine r_top (y := 0) (by unfold oneG; rw [if_pos hbe]) ?_
      have et : oneT votes (settings 2) (nK many 0) (nK many 1) v0 = v0 := by unfold oneT; rw [if_pos hbe]
      rw [et] at hP
      refine lv_istore_n (lv' := [(1, .int 0), (0, .ref (a 0))]) hx hb dX0_takes_43 rfl hl (by decide) rfl (fun ls hl => ?_)
      refine lv_goto (tgt := 35) hx hb dX0_takes_44 (by decide) ?_
      refine lv_iload_n hx hb dX0_takes_35 rfl (lv_at hl 0 rfl) ?_
      refine lv_if_eq (tgt := 47) hx hb dX0_takes_36 (by decide) (fun c_2 => ?_) (fun c_2 => absurd c_2 (by decide))
      have e0 : takesXL votes (settings 2) (nK many 0) (nK many 1) (f + 1) v0 = v0 := by rw [takesXL_s, if_pos hbe]
      exact hex _ _ _ (by rw [e0]; exact hP) hS (lv_sub hl [1] rfl)
    · refine lv_iload_n hx hb dX0_takes_35 rfl (lv_at hl 1 rfl) ?_
      refine lv_if_eq (tgt := 47) hx hb dX0_takes_36 (by decide) (fun c_1 => absurd c_1 (by decide)) (fun c_1 => ?_)
      refine lv_aload_n hx hb dX0_takes_39 rfl (lv_at hl 0 rfl) ?_
      refine va_calli (va_runV (As := []) (rest := []) ⟨hx, hb, hml, hown, hts⟩ (mx_takesOne l G t A a cs K many settings isVoted lotsNow seen keyOne keyTwo votes looked matched without trio starArms spotArms isTurn places byStar byFar one usedNow laidMany finding v0 dir k hM hI.1 (fun q => (txInv_s hI (oneP_ok h0 _ h8) q).2.1)) (cwV 0 hts (lw_V q313 q315 qs17 q80 q316) rfl rfl rfl cd_X0_takesOne ⟨Nat.le_of_ble_eq_true rfl, Nat.le_of_ble_eq_true rfl⟩) ⟨xPr_fb, x_recv hP hK, fun U hU hW => ⟨rfl, xPr_of hP hK hD hS hA hE hU hW⟩⟩ rfl rfl hl.1 rfl (lv_room (Nat.le_of_ble_eq_true rfl)) dX0_takes_40 ⟨Nat.le_of_ble_eq_true rfl, Nat.le_of_ble_eq_true rfl⟩) hS (fun _ _ h => h) (fun _ h => h) (fun r u tt H locs ht _ hq hP _ hkp hS => ?_)
      obtain ⟨rfl, rfl⟩ := hq
      have hP : va_P G vwCl (Xx t a K many settings isVoted lotsNow seen keyOne keyTwo votes looked matched without trio ((oneT votes (settings 2) (nK many 0) (nK many 1) v0).1) ((oneT votes (settings 2) (nK many 0) (nK many 1) v0).2.1) ((oneT votes (settings 2) (nK many 0) (nK many 1) v0).2.2.1) ((oneT votes (settings 2) (nK many 0) (nK many 1) v0).2.2.2) starArms spotArms isTurn places byStar byFar one usedNow laidMany finding) H := by rw [← ht]; exact hP
      refine r_top (y := 1) (by unfold oneG; rw [if_neg hbe]) ?_
      have et : oneT votes (settings 2) (nK many 0) (nK many 1) v0 = asgX v0 (oneP votes (settings 2) v0.1 (nK many 0) (nK many 1)) := by unfold oneT; rw [if_neg hbe]
      rw [et] at hP
      refine lv_istore_n (lv' := [(1, .int 1), (0, .ref (a 0))]) hx hb dX0_takes_43 rfl hl (by decide) rfl (fun ls hl => ?_)
      refine lv_goto (tgt := 35) hx hb dX0_takes_44 (by decide) ?_
      obtain ⟨hI2, -, hf2⟩ := txInv_s hI (oneP_ok h0 (nK many 1) h8) hbe
      have e0 : takesXL votes (settings 2) (nK many 0) (nK many 1) (f + 1) v0 = takesXL votes (settings 2) (nK many 0) (nK many 1) f (asgX v0 (oneP votes (settings 2) v0.1 (nK many 0) (nK many 1))) := by rw [takesXL_s, if_neg hbe]
      rw [e0] at hex
      exact ih (asgX v0 (oneP votes (settings 2) v0.1 (nK many 0) (nK many 1))) (k + 1) hI2 (by omega) _ _ _ hP hS (lv_sub hl [1, 0] rfl) hex

set_option maxHeartbeats 4000000 in
theorem mx_takes (l : Launch) (G : va_G) (t : Nat → ClassId) (A : Nat → Prop) (a : Nat → Nat) (cs : Nat → ClassId) (K : XK) (many : (Nat → Int32)) (settings : (Nat → Int32)) (isVoted : Int32) (lotsNow : Int32) (seen : (Nat → Int32)) (keyOne : (Nat → Int32)) (keyTwo : (Nat → Int32)) (votes : (Nat → Int32)) (looked : Int32) (matched : Int32) (without : Int32) (trio : (Nat → Int32)) (takenStar : (Nat → Int32)) (takenAs : (Nat → Int32)) (takenSpot : (Nat → Int32)) (pairs : Int32) (starArms : (Nat → Int64)) (spotArms : (Nat → Int64)) (isTurn : Int32) (places : (Nat → Int32)) (byStar : (Nat → Int32)) (byFar : (Nat → Int32)) (one : (Nat → Int64)) (usedNow : (Nat → Int32)) (laidMany : (Nat → Int32)) (finding : Int32) (dir : (Nat → Int32)) (hM : Mok many) : Met l yX0_takes (ws_ yX0_takes cX0_takes 2 (none)) (rm_ 0 2 0 0) (va_Pc [.ref (a 0)] (xPr G t A a cs K.L (Xx t a K many settings isVoted lotsNow seen keyOne keyTwo votes looked matched without trio takenStar takenAs takenSpot pairs starArms spotArms isTurn places byStar byFar one usedNow laidMany finding))) (va_Qv (fun (uv : TX) => uv = takesX votes (settings 2) (nK many 0) (nK many 1) (takenStar, takenAs, takenSpot, pairs)) (mB G (fun (uv : TX) => Xx t a K many settings isVoted lotsNow seen keyOne keyTwo votes looked matched without trio uv.1 uv.2.1 uv.2.2.1 uv.2.2.2 starArms spotArms isTurn places byStar byFar one usedNow laidMany finding)) A) 0 0 A := by
  refine mkx_W (by decide) (Nat.le_of_ble_eq_true rfl) ?_
  intro p e s m below meth c ls hx hb hml hr hlk hts hown hnm hv hl
  obtain ⟨hP, hK, hD, hA, hE⟩ := hv
  have hS : va_S A s.heap s.heap [] := va_S.rf
  have hl : lv_has ls 2 [(0, .ref (a 0))] := hl
  have h0 : nK many 0 ≤ 12 := (hM 0 (by omega)).2
  have h8 : nK many 1 ≤ 8 := (hM 1 (by omega)).2
  refine lv_aload_n hx hb dX0_takes_0 rfl (lv_at hl 0 rfl) ?_
  refine lv_iconst (v := 0) hx hb dX0_takes_1 (by decide) ?_
  refine va_put (D := G) (ci := 0) (v := .int 0) (ty := .int) (C := RX0) (T := TX0) (N := 32) hx hb hts in_X0 tyX0 tyX0_ok nmX0 hown hK hP (xD hD) hS 0 xk_this rfl 19 (by decide) (hts _ q652) (fun _ h => h) rfl (by decide +kernel) rfl rfl (Nat.le_of_ble_eq_true rfl) dX0_takes_2 (fun H locs hP _ hS => ?_)
  have hP : va_P G vwCl (Xx t a K many settings isVoted lotsNow seen keyOne keyTwo votes looked matched without trio takenStar takenAs takenSpot 0 starArms spotArms isTurn places byStar byFar one usedNow laidMany finding) H := by rw [xs_pairs] at hP; exact hP
  refine lv_iconst (v := 0) hx hb dX0_takes_5 (by decide) ?_
  refine lv_istore_n (lv' := [(1, .int 0), (0, .ref (a 0))]) hx hb dX0_takes_6 rfl hl (by decide) rfl (fun ls hl => ?_)
  have hP : va_P G vwCl (Xx t a K many settings isVoted lotsNow seen keyOne keyTwo votes looked matched without trio (noneF 0 takenStar) (noneF 0 takenAs) takenSpot 0 starArms spotArms isTurn places byStar byFar one usedNow laidMany finding) H := by exact hP
  refine lx_takes1 G t A a cs K many settings isVoted lotsNow seen keyOne keyTwo votes looked matched without trio takenStar takenAs takenSpot 0 starArms spotArms isTurn places byStar byFar one usedNow laidMany finding dir hx hb hml hown hts hK hD hA hE (8 - 0) 0 (by omega) (by omega) _ _ _ hP hS (lv_sub hl [1, 0] rfl) (fun H locs ls hP hS hl => ?_)
  refine lv_iconst (v := 1) hx hb dX0_takes_33 (by decide) ?_
  refine lv_istore_n (lv' := [(1, .int 1), (0, .ref (a 0))]) hx hb dX0_takes_34 rfl hl (by decide) rfl (fun ls hl => ?_)
  refine lx_takes2 G t A a cs K many settings isVoted lotsNow seen keyOne keyTwo votes looked matched without trio starArms spotArms isTurn places byStar byFar one usedNow laidMany finding dir hM h0 h8 hx hb hml hown hts hK hD hA hE 8 ((noneF 8 takenStar), (noneF 8 takenAs), takenSpot, 0) 0 (txInv_0 _ _ _) (by show freeN (noneF 8 takenStar) 8 ≤ 8; exact freeN_le _ _) _ _ _ hP hS (lv_sub hl [1, 0] rfl) (fun H locs ls hP hS hl => ?_)
  have hP : va_P G vwCl (Xx t a K many settings isVoted lotsNow seen keyOne keyTwo votes looked matched without trio ((takesX votes (settings 2) (nK many 0) (nK many 1) (takenStar, takenAs, takenSpot, pairs)).1) ((takesX votes (settings 2) (nK many 0) (nK many 1) (takenStar, takenAs, takenSpot, pairs)).2.1) ((takesX votes (settings 2) (nK many 0) (nK many 1) (takenStar, takenAs, takenSpot, pairs)).2.2.1) ((takesX votes (settings 2) (nK many 0) (nK many 1) (takenStar, takenAs, takenSpot, pairs)).2.2.2) starArms spotArms isTurn places byStar byFar one usedNow laidMany finding) H := by (unfold takesX; exact hP)
  exact W.vret hx hb hr (fun tt ht _ => ⟨⟨(takesX votes (settings 2) (nK many 0) (nK many 1) (takenStar, takenAs, takenSpot, pairs)), rfl, rfl, (show va_P G vwCl ((fun (uv : TX) => Xx t a K many settings isVoted lotsNow seen keyOne keyTwo votes looked matched without trio uv.1 uv.2.1 uv.2.2.1 uv.2.2.2 starArms spotArms isTurn places byStar byFar one usedNow laidMany finding) (takesX votes (settings 2) (nK many 0) (nK many 1) (takenStar, takenAs, takenSpot, pairs))) tt.heap from by rw [ht]; exact hP)⟩, hS.F ht⟩) hS.2.2 dX0_takes_47 hlk
