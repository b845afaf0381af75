/-! the tracker: seeing -/
set_option maxHeartbeats 4000000 in
theorem lx_turnX {p : Program} {l : Launch} {e : Env} {s : State} {m : MethodId} {args : Array Value} {below : List Frame} {meth : Method} {c : Code} {Q : State → Prop} {H0 : Heap} (G : va_G) (t : Nat → ClassId) (A : Nat → Prop) (a : Nat → Nat) (cs : Nat → ClassId) (K : XK) (many : (Nat → Int32)) (settings : (Nat → Int32)) (isVoted : Int32) (lotsNow : Int32) (keyOne : (Nat → Int32)) (keyTwo : (Nat → Int32)) (votes : (Nat → Int32)) (looked : Int32) (matched : Int32) (without : Int32) (trio : (Nat → Int32)) (takenStar : (Nat → Int32)) (takenAs : (Nat → Int32)) (takenSpot : (Nat → Int32)) (pairs : Int32) (starArms : (Nat → Int64)) (spotArms : (Nat → Int64)) (isTurn : Int32) (places : (Nat → Int32)) (byStar : (Nat → Int32)) (byFar : (Nat → Int32)) (one : (Nat → Int64)) (usedNow : (Nat → Int32)) (laidMany : (Nat → Int32)) (finding : Int32) (dir : (Nat → Int32)) (nn : Nat) (qr : Nat) (qf : Nat → Int32) (qa : Nat) (qb : Nat) (qc : Nat) (mm : Int32) (i9 : Nat) (v0 : T3) (cc9 : Nat) (ss9 : Nat) (mq : qr ∈ K.L) (fq : K.f qr = .inl (t 0, 3, .inl qf)) (hqa : qf 0 = nI qa) (hqb : qf 1 = nI qb) (hqc : qf 2 = nI qc) (la : qa ≤ 3) (lb : qb ≤ 3) (lc : qc ≤ 3) (hc9 : cc9 ≤ 8) (hs9 : ss9 ≤ 24) (hx : p.tables.exec = Jvm.exec) (hb : c.code = cX0_sees) (hml : c.maxLocals = 8) (hown : s.vm.findClass RX0 = some m.cls) (hts : ∀ w ∈ lw_all, w.before args s = true) (hK : va_K G vwCl (Tys t) s) (hD : XD A a K.L) (hA : ∀ q, H0.size ≤ q → A q) (hE : xE A a cs s H0) : ∀ (n i : Nat), 0 ≤ i → i + n = qa → ∀ (seen : (Nat → Int32)) (hR : tri seen = fz (fun _ => rotX) i v0) (H : Heap) (locs : List Loc) (ls : Array Slot), va_P G vwCl (Xx t a K many settings isVoted lotsNow seen keyOne keyTwo votes looked matched without trio takenStar takenAs takenSpot pairs starArms spotArms isTurn places byStar byFar one usedNow laidMany finding) H → va_S A H0 H locs → lv_has ls 8 [(0, .ref (a 0)), (1, .int (nI nn)), (2, .ref qr), (4, .int mm), (5, .int (nI i9)), (6, .int 0), (7, .int (nI i))] → (∀ (seen : (Nat → Int32)) (hR : tri seen = fz (fun _ => rotX) qa v0) (H : Heap) (locs : List Loc) (ls : Array Slot), va_P G vwCl (Xx t a K many settings isVoted lotsNow seen keyOne keyTwo votes looked matched without trio takenStar takenAs takenSpot pairs starArms spotArms isTurn places byStar byFar one usedNow laidMany finding) H → va_S A H0 H locs → lv_has ls 8 [(0, .ref (a 0)), (1, .int (nI nn)), (2, .ref qr), (4, .int mm), (5, .int (nI i9)), (6, .int 0), (7, .int (nI qa))] → W p l e (rm_ 0 4 8 24) s m args below meth c H locs cc9 ss9 Q (F0 m 103 ls [])) → W p l e (rm_ 0 4 8 24) s m args below meth c H locs cc9 ss9 Q (F0 m 69 ls []) := by
  intro n
  induction n with
  | zero =>
    intro i hlo hi seen hR H locs ls hP hS hl hex
    have hie : qa = i := by omega
    subst hie
    refine lv_iload hx hb dX0_sees_69 (lv_at hl 6 rfl) ?_
    refine lv_aload_n hx hb dX0_sees_71 rfl (lv_at hl 2 rfl) ?_
    refine lv_iload hx hb dX0_sees_72 (lv_at hl 5 rfl) ?_
    refine r_iald hx hb hK (x_pool hP mq fq) 0 0 rfl rfl (f := qf) 0 (nI_q 0) (by decide) (by decide) dX0_sees_74 ?_
    refine r_top (y := nI qa) hqa ?_
    refine rn_ge (tgt := 103) hx hb dX0_sees_75 (by decide) rfl rfl (by omega) (by omega) (fun c_1 => ?_) (fun c_1 => absurd c_1 (by omega))
    exact hex _ hR _ _ _ hP hS (lv_sub hl [0, 1, 2, 3, 4, 5, 6] rfl)
  | succ n ih =>
    intro i hlo hi seen hR H locs ls hP hS hl hex
    have hlt : i < qa := by omega
    refine lv_iload hx hb dX0_sees_69 (lv_at hl 6 rfl) ?_
    refine lv_aload_n hx hb dX0_sees_71 rfl (lv_at hl 2 rfl) ?_
    refine lv_iload hx hb dX0_sees_72 (lv_at hl 5 rfl) ?_
    refine r_iald hx hb hK (x_pool hP mq fq) 0 0 rfl rfl (f := qf) 0 (nI_q 0) (by decide) (by decide) dX0_sees_74 ?_
    refine r_top (y := nI qa) hqa ?_
    refine rn_ge (tgt := 103) hx hb dX0_sees_75 (by decide) rfl rfl (by omega) (by omega) (fun c_1 => absurd c_1 (by omega)) (fun c_1 => ?_)
    refine lv_aload_n hx hb dX0_sees_78 rfl (lv_at hl 0 rfl) ?_
    refine va_get (D := G) (ci := 0) (C := RX0) (T := TX0) (N := 32) hx hb hts in_X0 hown hK hP 0 xk_this rfl 0 (by decide) (hts _ q633) (fun _ h => h) rfl dX0_sees_79 ?_
    refine lv_iload hx hb dX0_sees_82 (lv_at hl 5 rfl) ?_
    refine xq_aald (r := .ref (a (2 + 0))) hx hb hK hP 1 8 xk_turners rfl rfl 0 (nI_q 0) (by decide) (by decide) rfl dX0_sees_84 ?_
    refine va_get (D := G) (ci := 1) (C := RX1) (T := TX1) (N := 1) hx hb hts in_X1 hown hK hP (2 + 0) (xr_turner (by decide)) rfl 0 (by decide) (hts _ q596) (fun _ h => h) rfl dX0_sees_85 ?_
    refine lv_aload_n hx hb dX0_sees_88 rfl (lv_at hl 0 rfl) ?_
    refine va_get (D := G) (ci := 0) (C := RX0) (T := TX0) (N := 32) hx hb hts in_X0 hown hK hP 0 xk_this rfl 8 (by decide) (hts _ q641) (fun _ h => h) rfl dX0_sees_89 ?_
    refine xl_turnX (dir := dir) hx hb hml hown hts hK hP hD hS hA hE hl.1 dX0_sees_92 (Nat.le_of_ble_eq_true rfl) (Nat.le_of_ble_eq_true rfl) (Nat.le_of_ble_eq_true rfl) (fun H locs hP hS => ?_) (by show _ ≤ 8; omega) (by show _ ≤ 24; omega)
    refine lv_iinc (v := nI (i + 1)) (lv' := [(7, .int (nI (i + 1))), (0, .ref (a 0)), (1, .int (nI nn)), (2, .ref qr), (4, .int mm), (5, .int (nI i9)), (6, .int 0)]) hx hb dX0_sees_97 hl (k := 6) rfl (iinc_nI rfl) (by decide) rfl (fun ls hl => ?_)
    refine lv_goto (tgt := 69) hx hb dX0_sees_100 (by decide) ?_
    have hP : va_P G vwCl (Xx t a K many settings isVoted lotsNow (upd (upd seen 1 (-(seen 2))) 2 (seen 1)) keyOne keyTwo votes looked matched without trio takenStar takenAs takenSpot pairs starArms spotArms isTurn places byStar byFar one usedNow laidMany finding) H := by exact hP
    exact ih (i + 1) (by omega) (by omega) _ (turX_s hR) _ _ _ hP hS (lv_sub hl [1, 2, 3, 4, 5, 6, 0] rfl) hex

set_option maxHeartbeats 4000000 in
theorem lx_turnY {p : Program} {l : Launch} {e : Env} {s : State} {m : MethodId} {args : Array Value} {below : List Frame} {meth : Method} {c : Code} {Q : State → Prop} {H0 : Heap} (G : va_G) (t : Nat → ClassId) (A : Nat → Prop) (a : Nat → Nat) (cs : Nat → ClassId) (K : XK) (many : (Nat → Int32)) (settings : (Nat → Int32)) (isVoted : Int32) (lotsNow : Int32) (keyOne : (Nat → Int32)) (keyTwo : (Nat → Int32)) (votes : (Nat → Int32)) (looked : Int32) (matched : Int32) (without : Int32) (trio : (Nat → Int32)) (takenStar : (Nat → Int32)) (takenAs : (Nat → Int32)) (takenSpot : (Nat → Int32)) (pairs : Int32) (starArms : (Nat → Int64)) (spotArms : (Nat → Int64)) (isTurn : Int32) (places : (Nat → Int32)) (byStar : (Nat → Int32)) (byFar : (Nat → Int32)) (one : (Nat → Int64)) (usedNow : (Nat → Int32)) (laidMany : (Nat → Int32)) (finding : Int32) (dir : (Nat → Int32)) (nn : Nat) (qr : Nat) (qf : Nat → Int32) (qa : Nat) (qb : Nat) (qc : Nat) (mm : Int32) (i9 : Nat) (v0 : T3) (cc9 : Nat) (ss9 : Nat) (mq : qr ∈ K.L) (fq : K.f qr = .inl (t 0, 3, .inl qf)) (hqa : qf 0 = nI qa) (hqb : qf 1 = nI qb) (hqc : qf 2 = nI qc) (la : qa ≤ 3) (lb : qb ≤ 3) (lc : qc ≤ 3) (hc9 : cc9 ≤ 8) (hs9 : ss9 ≤ 24) (hx : p.tables.exec = Jvm.exec) (hb : c.code = cX0_sees) (hml : c.maxLocals = 8) (hown : s.vm.findClass RX0 = some m.cls) (hts : ∀ w ∈ lw_all, w.before args s = true) (hK : va_K G vwCl (Tys t) s) (hD : XD A a K.L) (hA : ∀ q, H0.size ≤ q → A q) (hE : xE A a cs s H0) : ∀ (n i : Nat), 0 ≤ i → i + n = qb → ∀ (seen : (Nat → Int32)) (hR : tri seen = fz (fun _ => rotY) i v0) (H : Heap) (locs : List Loc) (ls : Array Slot), va_P G vwCl (Xx t a K many settings isVoted lotsNow seen keyOne keyTwo votes looked matched without trio takenStar takenAs takenSpot pairs starArms spotArms isTurn places byStar byFar one usedNow laidMany finding) H → va_S A H0 H locs → lv_has ls 8 [(0, .ref (a 0)), (1, .int (nI nn)), (2, .ref qr), (4, .int mm), (5, .int (nI i9)), (6, .int 1), (7, .int (nI i))] → (∀ (seen : (Nat → Int32)) (hR : tri seen = fz (fun _ => rotY) qb v0) (H : Heap) (locs : List Loc) (ls : Array Slot), va_P G vwCl (Xx t a K many settings isVoted lotsNow seen keyOne keyTwo votes looked matched without trio takenStar takenAs takenSpot pairs starArms spotArms isTurn places byStar byFar one usedNow laidMany finding) H → va_S A H0 H locs → lv_has ls 8 [(0, .ref (a 0)), (1, .int (nI nn)), (2, .ref qr), (4, .int mm), (5, .int (nI i9)), (6, .int 1), (7, .int (nI qb))] → W p l e (rm_ 0 4 8 24) s m args below meth c H locs cc9 ss9 Q (F0 m 103 ls [])) → W p l e (rm_ 0 4 8 24) s m args below meth c H locs cc9 ss9 Q (F0 m 69 ls []) := by
  intro n
  induction n with
  | zero =>
    intro i hlo hi seen hR H locs ls hP hS hl hex
    have hie : qb = i := by omega
    subst hie
    refine lv_iload hx hb dX0_sees_69 (lv_at hl 6 rfl) ?_
    refine lv_aload_n hx hb dX0_sees_71 rfl (lv_at hl 2 rfl) ?_
    refine lv_iload hx hb dX0_sees_72 (lv_at hl 5 rfl) ?_
    refine r_iald hx hb hK (x_pool hP mq fq) 0 0 rfl rfl (f := qf) 1 (nI_q 1) (by decide) (by decide) dX0_sees_74 ?_
    refine r_top (y := nI qb) hqb ?_
    refine rn_ge (tgt := 103) hx hb dX0_sees_75 (by decide) rfl rfl (by omega) (by omega) (fun c_1 => ?_) (fun c_1 => absurd c_1 (by omega))
    exact hex _ hR _ _ _ hP hS (lv_sub hl [0, 1, 2, 3, 4, 5, 6] rfl)
  | succ n ih =>
    intro i hlo hi seen hR H locs ls hP hS hl hex
    have hlt : i < qb := by omega
    refine lv_iload hx hb dX0_sees_69 (lv_at hl 6 rfl) ?_
    refine lv_aload_n hx hb dX0_sees_71 rfl (lv_at hl 2 rfl) ?_
    refine lv_iload hx hb dX0_sees_72 (lv_at hl 5 rfl) ?_
    refine r_iald hx hb hK (x_pool hP mq fq) 0 0 rfl rfl (f := qf) 1 (nI_q 1) (by decide) (by decide) dX0_sees_74 ?_
    refine r_top (y := nI qb) hqb ?_
    refine rn_ge (tgt := 103) hx hb dX0_sees_75 (by decide) rfl rfl (by omega) (by omega) (fun c_1 => absurd c_1 (by omega)) (fun c_1 => ?_)
    refine lv_aload_n hx hb dX0_sees_78 rfl (lv_at hl 0 rfl) ?_
    refine va_get (D := G) (ci := 0) (C := RX0) (T := TX0) (N := 32) hx hb hts in_X0 hown hK hP 0 xk_this rfl 0 (by decide) (hts _ q633) (fun _ h => h) rfl dX0_sees_79 ?_
    refine lv_iload hx hb dX0_sees_82 (lv_at hl 5 rfl) ?_
    refine xq_aald (r := .ref (a (2 + 1))) hx hb hK hP 1 8 xk_turners rfl rfl 1 (nI_q 1) (by decide) (by decide) rfl dX0_sees_84 ?_
    refine va_get (D := G) (ci := 1) (C := RX1) (T := TX1) (N := 1) hx hb hts in_X1 hown hK hP (2 + 1) (xr_turner (by decide)) rfl 0 (by decide) (hts _ q596) (fun _ h => h) rfl dX0_sees_85 ?_
    refine lv_aload_n hx hb dX0_sees_88 rfl (lv_at hl 0 rfl) ?_
    refine va_get (D := G) (ci := 0) (C := RX0) (T := TX0) (N := 32) hx hb hts in_X0 hown hK hP 0 xk_this rfl 8 (by decide) (hts _ q641) (fun _ h => h) rfl dX0_sees_89 ?_
    refine xl_turnY (dir := dir) hx hb hml hown hts hK hP hD hS hA hE hl.1 dX0_sees_92 (Nat.le_of_ble_eq_true rfl) (Nat.le_of_ble_eq_true rfl) (Nat.le_of_ble_eq_true rfl) (fun H locs hP hS => ?_) (by show _ ≤ 8; omega) (by show _ ≤ 24; omega)
    refine lv_iinc (v := nI (i + 1)) (lv' := [(7, .int (nI (i + 1))), (0, .ref (a 0)), (1, .int (nI nn)), (2, .ref qr), (4, .int mm), (5, .int (nI i9)), (6, .int 1)]) hx hb dX0_sees_97 hl (k := 6) rfl (iinc_nI rfl) (by decide) rfl (fun ls hl => ?_)
    refine lv_goto (tgt := 69) hx hb dX0_sees_100 (by decide) ?_
    have hP : va_P G vwCl (Xx t a K many settings isVoted lotsNow (upd (upd seen 0 (seen 2)) 2 (-(seen 0))) keyOne keyTwo votes looked matched without trio takenStar takenAs takenSpot pairs starArms spotArms isTurn places byStar byFar one usedNow laidMany finding) H := by exact hP
    exact ih (i + 1) (by omega) (by omega) _ (turY_s hR) _ _ _ hP hS (lv_sub hl [1, 2, 3, 4, 5, 6, 0] rfl) hex

set_option maxHeartbeats 4000000 in
theorem lx_turnZ {p : Program} {l : Launch} {e : Env} {s : State} {m : MethodId} {args : Array Value} {below : List Frame} {meth : Method} {c : Code} {Q : State → Prop} {H0 : Heap} (G : va_G) (t : Nat → ClassId) (A : Nat → Prop) (a : Nat → Nat) (cs : Nat → ClassId) (K : XK) (many : (Nat → Int32)) (settings : (Nat → Int32)) (isVoted : Int32) (lotsNow : Int32) (keyOne : (Nat → Int32)) (keyTwo : (Nat → Int32)) (votes : (Nat → Int32)) (looked : Int32) (matched : Int32) (without : Int32) (trio : (Nat → Int32)) (takenStar : (Nat → Int32)) (takenAs : (Nat → Int32)) (takenSpot : (Nat → Int32)) (pairs : Int32) (starArms : (Nat → Int64)) (spotArms : (Nat → Int64)) (isTurn : Int32) (places : (Nat → Int32)) (byStar : (Nat → Int32)) (byFar : (Nat → Int32)) (one : (Nat → Int64)) (usedNow : (Nat → Int32)) (laidMany : (Nat → Int32)) (finding : Int32) (dir : (Nat → Int32)) (nn : Nat) (qr : Nat) (qf : Nat → Int32) (qa : Nat) (qb : Nat) (qc : Nat) (mm : Int32) (i9 : Nat) (v0 : T3) (cc9 : Nat) (ss9 : Nat) (mq : qr ∈ K.L) (fq : K.f qr = .inl (t 0, 3, .inl qf)) (hqa : qf 0 = nI qa) (hqb : qf 1 = nI qb) (hqc : qf 2 = nI qc) (la : qa ≤ 3) (lb : qb ≤ 3) (lc : qc ≤ 3) (hc9 : cc9 ≤ 8) (hs9 : ss9 ≤ 24) (hx : p.tables.exec = Jvm.exec) (hb : c.code = cX0_sees) (hml : c.maxLocals = 8) (hown : s.vm.findClass RX0 = some m.cls) (hts : ∀ w ∈ lw_all, w.before args s = true) (hK : va_K G vwCl (Tys t) s) (hD : XD A a K.L) (hA : ∀ q, H0.size ≤ q → A q) (hE : xE A a cs s H0) : ∀ (n i : Nat), 0 ≤ i → i + n = qc → ∀ (seen : (Nat → Int32)) (hR : tri seen = fz (fun _ => rotZ) i v0) (H : Heap) (locs : List Loc) (ls : Array Slot), va_P G vwCl (Xx t a K many settings isVoted lotsNow seen keyOne keyTwo votes looked matched without trio takenStar takenAs takenSpot pairs starArms spotArms isTurn places byStar byFar one usedNow laidMany finding) H → va_S A H0 H locs → lv_has ls 8 [(0, .ref (a 0)), (1, .int (nI nn)), (2, .ref qr), (4, .int mm), (5, .int (nI i9)), (6, .int 2), (7, .int (nI i))] → (∀ (seen : (Nat → Int32)) (hR : tri seen = fz (fun _ => rotZ) qc v0) (H : Heap) (locs : List Loc) (ls : Array Slot), va_P G vwCl (Xx t a K many settings isVoted lotsNow seen keyOne keyTwo votes looked matched without trio takenStar takenAs takenSpot pairs starArms spotArms isTurn places byStar byFar one usedNow laidMany finding) H → va_S A H0 H locs → lv_has ls 8 [(0, .ref (a 0)), (1, .int (nI nn)), (2, .ref qr), (4, .int mm), (5, .int (nI i9)), (6, .int 2), (7, .int (nI qc))] → W p l e (rm_ 0 4 8 24) s m args below meth c H locs cc9 ss9 Q (F0 m 103 ls [])) → W p l e (rm_ 0 4 8 24) s m args below meth c H locs cc9 ss9 Q (F0 m 69 ls []) := by
  intro n
  induction n with
  | zero =>
    intro i hlo hi seen hR H locs ls hP hS hl hex
    have hie : qc = i := by omega
    subst hie
    refine lv_iload hx hb dX0_sees_69 (lv_at hl 6 rfl) ?_
    refine lv_aload_n hx hb dX0_sees_71 rfl (lv_at hl 2 rfl) ?_
    refine lv_iload hx hb dX0_sees_72 (lv_at hl 5 rfl) ?_
    refine r_iald hx hb hK (x_pool hP mq fq) 0 0 rfl rfl (f := qf) 2 (nI_q 2) (by decide) (by decide) dX0_sees_74 ?_
    refine r_top (y := nI qc) hqc ?_
    refine rn_ge (tgt := 103) hx hb dX0_sees_75 (by decide) rfl rfl (by omega) (by omega) (fun c_1 => ?_) (fun c_1 => absurd c_1 (by omega))
    exact hex _ hR _ _ _ hP hS (lv_sub hl [0, 1, 2, 3, 4, 5, 6] rfl)
  | succ n ih =>
    intro i hlo hi seen hR H locs ls hP hS hl hex
    have hlt : i < qc := by omega
    refine lv_iload hx hb dX0_sees_69 (lv_at hl 6 rfl) ?_
    refine lv_aload_n hx hb dX0_sees_71 rfl (lv_at hl 2 rfl) ?_
    refine lv_iload hx hb dX0_sees_72 (lv_at hl 5 rfl) ?_
    refine r_iald hx hb hK (x_pool hP mq fq) 0 0 rfl rfl (f := qf) 2 (nI_q 2) (by decide) (by decide) dX0_sees_74 ?_
    refine r_top (y := nI qc) hqc ?_
    refine rn_ge (tgt := 103) hx hb dX0_sees_75 (by decide) rfl rfl (by omega) (by omega) (fun c_1 => absurd c_1 (by omega)) (fun c_1 => ?_)
    refine lv_aload_n hx hb dX0_sees_78 rfl (lv_at hl 0 rfl) ?_
    refine va_get (D := G) (ci := 0) (C := RX0) (T := TX0) (N := 32) hx hb hts in_X0 hown hK hP 0 xk_this rfl 0 (by decide) (hts _ q633) (fun _ h => h) rfl dX0_sees_79 ?_
    refine lv_iload hx hb dX0_sees_82 (lv_at hl 5 rfl) ?_
    refine xq_aald (r := .ref (a (2 + 2))) hx hb hK hP 1 8 xk_turners rfl rfl 2 (nI_q 2) (by decide) (by decide) rfl dX0_sees_84 ?_
    refine va_get (D := G) (ci := 1) (C := RX1) (T := TX1) (N := 1) hx hb hts in_X1 hown hK hP (2 + 2) (xr_turner (by decide)) rfl 0 (by decide) (hts _ q596) (fun _ h => h) rfl dX0_sees_85 ?_
    refine lv_aload_n hx hb dX0_sees_88 rfl (lv_at hl 0 rfl) ?_
    refine va_get (D := G) (ci := 0) (C := RX0) (T := TX0) (N := 32) hx hb hts in_X0 hown hK hP 0 xk_this rfl 8 (by decide) (hts _ q641) (fun _ h => h) rfl dX0_sees_89 ?_
    refine xl_turnZ (dir := dir) hx hb hml hown hts hK hP hD hS hA hE hl.1 dX0_sees_92 (Nat.le_of_ble_eq_true rfl) (Nat.le_of_ble_eq_true rfl) (Nat.le_of_ble_eq_true rfl) (fun H locs hP hS => ?_) (by show _ ≤ 8; omega) (by show _ ≤ 24; omega)
    refine lv_iinc (v := nI (i + 1)) (lv' := [(7, .int (nI (i + 1))), (0, .ref (a 0)), (1, .int (nI nn)), (2, .ref qr), (4, .int mm), (5, .int (nI i9)), (6, .int 2)]) hx hb dX0_sees_97 hl (k := 6) rfl (iinc_nI rfl) (by decide) rfl (fun ls hl => ?_)
    refine lv_goto (tgt := 69) hx hb dX0_sees_100 (by decide) ?_
    have hP : va_P G vwCl (Xx t a K many settings isVoted lotsNow (upd (upd seen 0 (-(seen 1))) 1 (seen 0)) keyOne keyTwo votes looked matched without trio takenStar takenAs takenSpot pairs starArms spotArms isTurn places byStar byFar one usedNow laidMany finding) H := by exact hP
    exact ih (i + 1) (by omega) (by omega) _ (turZ_s hR) _ _ _ hP hS (lv_sub hl [1, 2, 3, 4, 5, 6, 0] rfl) hex

set_option maxHeartbeats 4000000 in
theorem lx_sees {p : Program} {l : Launch} {e : Env} {s : State} {m : MethodId} {args : Array Value} {below : List Frame} {meth : Method} {c : Code} {Q : State → Prop} {H0 : Heap} (G : va_G) (t : Nat → ClassId) (A : Nat → Prop) (a : Nat → Nat) (cs : Nat → ClassId) (many : (Nat → Int32)) (settings : (Nat → Int32)) (lotsNow : Int32) (keyOne : (Nat → Int32)) (keyTwo : (Nat → Int32)) (votes : (Nat → Int32)) (looked : Int32) (matched : Int32) (without : Int32) (trio : (Nat → Int32)) (takenStar : (Nat → Int32)) (takenAs : (Nat → Int32)) (takenSpot : (Nat → Int32)) (pairs : Int32) (starArms : (Nat → Int64)) (spotArms : (Nat → Int64)) (isTurn : Int32) (places : (Nat → Int32)) (byStar : (Nat → Int32)) (byFar : (Nat → Int32)) (one : (Nat → Int64)) (usedNow : (Nat → Int32)) (laidMany : (Nat → Int32)) (finding : Int32) (dir : (Nat → Int32)) (nn : Nat) (qr : Nat) (qf : Nat → Int32) (qa : Nat) (qb : Nat) (qc : Nat) (seed : Int32) (mm : Int32) (K0 : XK) (hM : Mok many) (mq : qr ∈ K0.L) (fq : K0.f qr = .inl (t 0, 3, .inl qf)) (hqa : qf 0 = nI qa) (hqb : qf 1 = nI qb) (hqc : qf 2 = nI qc) (la : qa ≤ 3) (lb : qb ≤ 3) (lc : qc ≤ 3) (hn8 : nn ≤ 8) (hn0 : nn ≤ nK many 0) (hm : mm = 0 ∨ (0 < mm ∧ ¬ 2 * mm + 1 = 0)) (hx : p.tables.exec = Jvm.exec) (hb : c.code = cX0_sees) (hml : c.maxLocals = 8) (hown : s.vm.findClass RX0 = some m.cls) (hts : ∀ w ∈ lw_all, w.before args s = true) (hK : va_K G vwCl (Tys t) s) (hA : ∀ q, H0.size ≤ q → A q) (hE : xE A a cs s H0) : ∀ (n i : Nat), 0 ≤ i → i + n = nn → ∀ (K : XK) (isVoted : Int32) (seen : (Nat → Int32)) (hR : GrX A a K0 K (seeX i qa qb qc mm (dir, seed)).1 (mnX many i)) (H : Heap) (locs : List Loc) (ls : Array Slot), va_P G vwCl (Xx t a K (mnX many i) settings isVoted ((seeX i qa qb qc mm (dir, seed)).2) seen keyOne keyTwo votes looked matched without trio takenStar takenAs takenSpot pairs starArms spotArms isTurn places byStar byFar one usedNow laidMany finding) H → va_S A H0 H locs → lv_has ls 8 [(0, .ref (a 0)), (1, .int (nI nn)), (2, .ref qr), (4, .int mm), (5, .int (nI i))] → (∀ (K : XK) (isVoted : Int32) (seen : (Nat → Int32)) (hR : GrX A a K0 K (seeX nn qa qb qc mm (dir, seed)).1 (mnX many nn)) (H : Heap) (locs : List Loc) (ls : Array Slot), va_P G vwCl (Xx t a K (mnX many nn) settings isVoted ((seeX nn qa qb qc mm (dir, seed)).2) seen keyOne keyTwo votes looked matched without trio takenStar takenAs takenSpot pairs starArms spotArms isTurn places byStar byFar one usedNow laidMany finding) H → va_S A H0 H locs → lv_has ls 8 [(0, .ref (a 0)), (1, .int (nI nn)), (2, .ref qr), (4, .int mm), (5, .int (nI nn))] → W p l e (rm_ 0 4 8 24) s m args below meth c H locs nn (3 * nn) Q (F0 m 144 ls [])) → W p l e (rm_ 0 4 8 24) s m args below meth c H locs i (3 * i) Q (F0 m 15 ls []) := by
  intro n
  induction n with
  | zero =>
    intro i hlo hi K isVoted seen hR H locs ls hP hS hl hex
    have hie : nn = i := by omega
    subst hie
    have hD : XD A a K.L := hR.1
    refine lv_iload hx hb dX0_sees_15 (lv_at hl 4 rfl) ?_
    refine lv_iload_n hx hb dX0_sees_17 rfl (lv_at hl 1 rfl) ?_
    refine rn_ge (tgt := 144) hx hb dX0_sees_18 (by decide) rfl rfl (by omega) (by omega) (fun c_1 => ?_) (fun c_1 => absurd c_1 (by omega))
    exact hex _ _ _ hR _ _ _ hP hS (lv_sub hl [0, 1, 2, 3, 4] rfl)
  | succ n ih =>
    intro i hlo hi K isVoted seen hR H locs ls hP hS hl hex
    have hlt : i < nn := by omega
    have hD : XD A a K.L := hR.1
    have mq1 := (hR.2.1.2.2.2 qr mq).1
    have fq1 := (hR.2.1.2.2.2 qr mq).2.trans fq
    obtain ⟨hM1, hk1, hk0⟩ := mnX_ok hM (i := i) (by omega)
    have hMz := hM
    have hM := hM1
    have hB := hR.2.2
    refine lv_iload hx hb dX0_sees_15 (lv_at hl 4 rfl) ?_
    refine lv_iload_n hx hb dX0_sees_17 rfl (lv_at hl 1 rfl) ?_
    refine rn_ge (tgt := 144) hx hb dX0_sees_18 (by decide) rfl rfl (by omega) (by omega) (fun c_1 => absurd c_1 (by omega)) (fun c_1 => ?_)
    refine lv_iconst (v := 0) hx hb dX0_sees_21 (by decide) ?_
    refine lv_istore (lv' := [(6, .int 0), (0, .ref (a 0)), (1, .int (nI nn)), (2, .ref qr), (4, .int mm), (5, .int (nI i))]) hx hb dX0_sees_22 hl (by decide) rfl (fun ls hl => ?_)
    refine lv_iload hx hb dX0_sees_24 (lv_at hl 0 rfl) ?_
    refine lv_iconst (v := 3) hx hb dX0_sees_26 (by decide) ?_
    refine lv_icmp_ge (tgt := 57) hx hb dX0_sees_27 (by decide) (fun c_2 => absurd c_2 (by decide)) (fun c_2 => ?_)
    refine lv_aload_n hx hb dX0_sees_30 rfl (lv_at hl 1 rfl) ?_
    refine va_get (D := G) (ci := 0) (C := RX0) (T := TX0) (N := 32) hx hb hts in_X0 hown hK hP 0 xk_this rfl 8 (by decide) (hts _ q641) (fun _ h => h) rfl dX0_sees_31 ?_
    refine lv_iload hx hb dX0_sees_34 (lv_at hl 0 rfl) ?_
    refine lv_aload_n hx hb dX0_sees_36 rfl (lv_at hl 1 rfl) ?_
    refine va_get (D := G) (ci := 0) (C := RX0) (T := TX0) (N := 32) hx hb hts in_X0 hown hK hP 0 xk_this rfl 3 (by decide) (hts _ q636) (fun _ h => h) rfl dX0_sees_37 ?_
    refine lv_iconst (v := 0) hx hb dX0_sees_40 (by decide) ?_
    refine xq_aald (r := .ref (a (6 + 0))) hx hb hK hP 5 10 xk_bodies rfl rfl 0 (nI_q 0) (by decide) (by decide) rfl dX0_sees_41 ?_
    refine lv_iload hx hb dX0_sees_42 (lv_at hl 5 rfl) ?_
    obtain ⟨b_3, eb_3, mb_3, fb_3⟩ := hB 0 i (by decide) (by rw [hk0]; omega)
    refine xq_aald (r := .ref b_3) hx hb hK hP (6 + 0) 5 (xr_bodies (by decide)) rfl rfl i rfl (lt_mx hM (by decide) (by rw [hk0]; omega)) (mx_1000 _) (by rw [eb_3]; rfl) dX0_sees_44 ?_
    refine lv_iload hx hb dX0_sees_45 (lv_at hl 0 rfl) ?_
    refine xb_along (w := 0) hx hb hml hown hts hK (x_pool hP mb_3 fb_3) (by decide) (nI_q 0) (by decide) hl.1 (Nat.le_of_ble_eq_true rfl) (Nat.le_of_ble_eq_true rfl) (Nat.le_of_ble_eq_true rfl) dX0_sees_47 ?_ (by show _ ≤ 8; omega) (by show _ ≤ 24; omega)
    refine r_iast hx hb hK hP (xD hD) hS 10 0 xk_seen rfl 0 (nI_q 0) (by decide) (by decide) dX0_sees_50 (ws' := Xx t a K (mnX many i) settings isVoted ((seeX i qa qb qc mm (dir, seed)).2) (upd seen 0 (((seeX i qa qb qc mm (dir, seed)).1) (36 * 0 + 3 * i + 0))) keyOne keyTwo votes looked matched without trio takenStar takenAs takenSpot pairs starArms spotArms isTurn places byStar byFar one usedNow laidMany finding) (xs_seen _) (fun H locs hP hS => ?_)
    refine lv_iinc (v := 1) (lv' := [(6, .int 1), (0, .ref (a 0)), (1, .int (nI nn)), (2, .ref qr), (4, .int mm), (5, .int (nI i))]) hx hb dX0_sees_51 hl (k := 0) rfl (by decide) (by decide) rfl (fun ls hl => ?_)
    refine lv_goto (tgt := 24) hx hb dX0_sees_54 (by decide) ?_
    refine lv_iload hx hb dX0_sees_24 (lv_at hl 0 rfl) ?_
    refine lv_iconst (v := 3) hx hb dX0_sees_26 (by decide) ?_
    refine lv_icmp_ge (tgt := 57) hx hb dX0_sees_27 (by decide) (fun c_4 => absurd c_4 (by decide)) (fun c_4 => ?_)
    refine lv_aload_n hx hb dX0_sees_30 rfl (lv_at hl 1 rfl) ?_
    refine va_get (D := G) (ci := 0) (C := RX0) (T := TX0) (N := 32) hx hb hts in_X0 hown hK hP 0 xk_this rfl 8 (by decide) (hts _ q641) (fun _ h => h) rfl dX0_sees_31 ?_
    refine lv_iload hx hb dX0_sees_34 (lv_at hl 0 rfl) ?_
    refine lv_aload_n hx hb dX0_sees_36 rfl (lv_at hl 1 rfl) ?_
    refine va_get (D := G) (ci := 0) (C := RX0) (T := TX0) (N := 32) hx hb hts in_X0 hown hK hP 0 xk_this rfl 3 (by decide) (hts _ q636) (fun _ h => h) rfl dX0_sees_37 ?_
    refine lv_iconst (v := 0) hx hb dX0_sees_40 (by decide) ?_
    refine xq_aald (r := .ref (a (6 + 0))) hx hb hK hP 5 10 xk_bodies rfl rfl 0 (nI_q 0) (by decide) (by decide) rfl dX0_sees_41 ?_
    refine lv_iload hx hb dX0_sees_42 (lv_at hl 5 rfl) ?_
    obtain ⟨b_5, eb_5, mb_5, fb_5⟩ := hB 0 i (by decide) (by rw [hk0]; omega)
    refine xq_aald (r := .ref b_5) hx hb hK hP (6 + 0) 5 (xr_bodies (by decide)) rfl rfl i rfl (lt_mx hM (by decide) (by rw [hk0]; omega)) (mx_1000 _) (by rw [eb_5]; rfl) dX0_sees_44 ?_
    refine lv_iload hx hb dX0_sees_45 (lv_at hl 0 rfl) ?_
    refine xb_along (w := 1) hx hb hml hown hts hK (x_pool hP mb_5 fb_5) (by decide) (nI_q 1) (by decide) hl.1 (Nat.le_of_ble_eq_true rfl) (Nat.le_of_ble_eq_true rfl) (Nat.le_of_ble_eq_true rfl) dX0_sees_47 ?_ (by show _ ≤ 8; omega) (by show _ ≤ 24; omega)
    refine r_iast hx hb hK hP (xD hD) hS 10 0 xk_seen rfl 1 (nI_q 1) (by decide) (by decide) dX0_sees_50 (ws' := Xx t a K (mnX many i) settings isVoted ((seeX i qa qb qc mm (dir, seed)).2) (upd (upd seen 0 (((seeX i qa qb qc mm (dir, seed)).1) (36 * 0 + 3 * i + 0))) 1 (((seeX i qa qb qc mm (dir, seed)).1) (36 * 0 + 3 * i + 1))) keyOne keyTwo votes looked matched without trio takenStar takenAs takenSpot pairs starArms spotArms isTurn places byStar byFar one usedNow laidMany finding) (xs_seen _) (fun H locs hP hS => ?_)
    refine lv_iinc (v := 2) (lv' := [(6, .int 2), (0, .ref (a 0)), (1, .int (nI nn)), (2, .ref qr), (4, .int mm), (5, .int (nI i))]) hx hb dX0_sees_51 hl (k := 0) rfl (by decide) (by decide) rfl (fun ls hl => ?_)
    refine lv_goto (tgt := 24) hx hb dX0_sees_54 (by decide) ?_
    refine lv_iload hx hb dX0_sees_24 (lv_at hl 0 rfl) ?_
    refine lv_iconst (v := 3) hx hb dX0_sees_26 (by decide) ?_
    refine lv_icmp_ge (tgt := 57) hx hb dX0_sees_27 (by decide) (fun c_6 => absurd c_6 (by decide)) (fun c_6 => ?_)
    refine lv_aload_n hx hb dX0_sees_30 rfl (lv_at hl 1 rfl) ?_
    refine va_get (D := G) (ci := 0) (C := RX0) (T := TX0) (N := 32) hx hb hts in_X0 hown hK hP 0 xk_this rfl 8 (by decide) (hts _ q641) (fun _ h => h) rfl dX0_sees_31 ?_
    refine lv_iload hx hb dX0_sees_34 (lv_at hl 0 rfl) ?_
    refine lv_aload_n hx hb dX0_sees_36 rfl (lv_at hl 1 rfl) ?_
    refine va_get (D := G) (ci := 0) (C := RX0) (T := TX0) (N := 32) hx hb hts in_X0 hown hK hP 0 xk_this rfl 3 (by decide) (hts _ q636) (fun _ h => h) rfl dX0_sees_37 ?_
    refine lv_iconst (v := 0) hx hb dX0_sees_40 (by decide) ?_
    refine xq_aald (r := .ref (a (6 + 0))) hx hb hK hP 5 10 xk_bodies rfl rfl 0 (nI_q 0) (by decide) (by decide) rfl dX0_sees_41 ?_
    refine lv_iload hx hb dX0_sees_42 (lv_at hl 5 rfl) ?_
    obtain ⟨b_7, eb_7, mb_7, fb_7⟩ := hB 0 i (by decide) (by rw [hk0]; omega)
    refine xq_aald (r := .ref b_7) hx hb hK hP (6 + 0) 5 (xr_bodies (by decide)) rfl rfl i rfl (lt_mx hM (by decide) (by rw [hk0]; omega)) (mx_1000 _) (by rw [eb_7]; rfl) dX0_sees_44 ?_
    refine lv_iload hx hb dX0_sees_45 (lv_at hl 0 rfl) ?_
    refine xb_along (w := 2) hx hb hml hown hts hK (x_pool hP mb_7 fb_7) (by decide) (nI_q 2) (by decide) hl.1 (Nat.le_of_ble_eq_true rfl) (Nat.le_of_ble_eq_true rfl) (Nat.le_of_ble_eq_true rfl) dX0_sees_47 ?_ (by show _ ≤ 8; omega) (by show _ ≤ 24; omega)
    refine r_iast hx hb hK hP (xD hD) hS 10 0 xk_seen rfl 2 (nI_q 2) (by decide) (by decide) dX0_sees_50 (ws' := Xx t a K (mnX many i) settings isVoted ((seeX i qa qb qc mm (dir, seed)).2) (upd (upd (upd seen 0 (((seeX i qa qb qc mm (dir, seed)).1) (36 * 0 + 3 * i + 0))) 1 (((seeX i qa qb qc mm (dir, seed)).1) (36 * 0 + 3 * i + 1))) 2 (((seeX i qa qb qc mm (dir, seed)).1) (36 * 0 + 3 * i + 2))) keyOne keyTwo votes looked matched without trio takenStar takenAs takenSpot pairs starArms spotArms isTurn places byStar byFar one usedNow laidMany finding) (xs_seen _) (fun H locs hP hS => ?_)
    refine lv_iinc (v := 3) (lv' := [(6, .int 3), (0, .ref (a 0)), (1, .int (nI nn)), (2, .ref qr), (4, .int mm), (5, .int (nI i))]) hx hb dX0_sees_51 hl (k := 0) rfl (by decide) (by decide) rfl (fun ls hl => ?_)
    refine lv_goto (tgt := 24) hx hb dX0_sees_54 (by decide) ?_
    refine lv_iload hx hb dX0_sees_24 (lv_at hl 0 rfl) ?_
    refine lv_iconst (v := 3) hx hb dX0_sees_26 (by decide) ?_
    refine lv_icmp_ge (tgt := 57) hx hb dX0_sees_27 (by decide) (fun c_8 => ?_) (fun c_8 => absurd c_8 (by decide))
    refine lv_iconst (v := 0) hx hb dX0_sees_57 (by decide) ?_
    refine lv_istore (lv' := [(6, .int 0), (0, .ref (a 0)), (1, .int (nI nn)), (2, .ref qr), (4, .int mm), (5, .int (nI i))]) hx hb dX0_sees_58 hl (by decide) rfl (fun ls hl => ?_)
    refine lv_iload hx hb dX0_sees_60 (lv_at hl 0 rfl) ?_
    refine lv_iconst (v := 3) hx hb dX0_sees_62 (by decide) ?_
    refine lv_icmp_ge (tgt := 109) hx hb dX0_sees_63 (by decide) (fun c_9 => absurd c_9 (by decide)) (fun c_9 => ?_)
    refine lv_iconst (v := 0) hx hb dX0_sees_66 (by decide) ?_
    refine lv_istore (lv' := [(7, .int 0), (6, .int 0), (0, .ref (a 0)), (1, .int (nI nn)), (2, .ref qr), (4, .int mm), (5, .int (nI i))]) hx hb dX0_sees_67 hl (by decide) rfl (fun ls hl => ?_)
    refine lx_turnX G t A a cs K (mnX many i) settings isVoted ((seeX i qa qb qc mm (dir, seed)).2) keyOne keyTwo votes looked matched without trio takenStar takenAs takenSpot pairs starArms spotArms isTurn places byStar byFar one usedNow laidMany finding dir nn qr qf qa qb qc mm i ((seeX i qa qb qc mm (dir, seed)).1 (36 * 0 + 3 * i + 0), (seeX i qa qb qc mm (dir, seed)).1 (36 * 0 + 3 * i + 1), (seeX i qa qb qc mm (dir, seed)).1 (36 * 0 + 3 * i + 2)) _ _ mq1 fq1 hqa hqb hqc la lb lc (by omega) (by omega) hx hb hml hown hts hK hD hA hE (qa - 0) 0 (by omega) (by omega) _ rfl _ _ _ hP hS (lv_sub hl [2, 3, 4, 5, 6, 1, 0] rfl) (fun seen_v_10 hR_v_10 H locs ls hP hS hl => ?_)
    refine lv_iinc (v := 1) (lv' := [(6, .int 1), (0, .ref (a 0)), (1, .int (nI nn)), (2, .ref qr), (4, .int mm), (5, .int (nI i)), (7, .int (nI qa))]) hx hb dX0_sees_103 hl (k := 5) rfl (by decide) (by decide) rfl (fun ls hl => ?_)
    refine lv_goto (tgt := 60) hx hb dX0_sees_106 (by decide) ?_
    refine lv_iload hx hb dX0_sees_60 (lv_at hl 0 rfl) ?_
    refine lv_iconst (v := 3) hx hb dX0_sees_62 (by decide) ?_
    refine lv_icmp_ge (tgt := 109) hx hb dX0_sees_63 (by decide) (fun c_11 => absurd c_11 (by decide)) (fun c_11 => ?_)
    refine lv_iconst (v := 0) hx hb dX0_sees_66 (by decide) ?_
    refine lv_istore (lv' := [(7, .int 0), (6, .int 1), (0, .ref (a 0)), (1, .int (nI nn)), (2, .ref qr), (4, .int mm), (5, .int (nI i))]) hx hb dX0_sees_67 hl (by decide) rfl (fun ls hl => ?_)
    refine lx_turnY G t A a cs K (mnX many i) settings isVoted ((seeX i qa qb qc mm (dir, seed)).2) keyOne keyTwo votes looked matched without trio takenStar takenAs takenSpot pairs starArms spotArms isTurn places byStar byFar one usedNow laidMany finding dir nn qr qf qa qb qc mm i (fz (fun _ => rotX) qa ((seeX i qa qb qc mm (dir, seed)).1 (36 * 0 + 3 * i + 0), (seeX i qa qb qc mm (dir, seed)).1 (36 * 0 + 3 * i + 1), (seeX i qa qb qc mm (dir, seed)).1 (36 * 0 + 3 * i + 2))) _ _ mq1 fq1 hqa hqb hqc la lb lc (by omega) (by omega) hx hb hml hown hts hK hD hA hE (qb - 0) 0 (by omega) (by omega) _ hR_v_10 _ _ _ hP hS (lv_sub hl [2, 3, 4, 5, 6, 1, 0] rfl) (fun seen_v_12 hR_v_12 H locs ls hP hS hl => ?_)
    refine lv_iinc (v := 2) (lv' := [(6, .int 2), (0, .ref (a 0)), (1, .int (nI nn)), (2, .ref qr), (4, .int mm), (5, .int (nI i)), (7, .int (nI qb))]) hx hb dX0_sees_103 hl (k := 5) rfl (by decide) (by decide) rfl (fun ls hl => ?_)
    refine lv_goto (tgt := 60) hx hb dX0_sees_106 (by decide) ?_
    refine lv_iload hx hb dX0_sees_60 (lv_at hl 0 rfl) ?_
    refine lv_iconst (v := 3) hx hb dX0_sees_62 (by decide) ?_
    refine lv_icmp_ge (tgt := 109) hx hb dX0_sees_63 (by decide) (fun c_13 => absurd c_13 (by decide)) (fun c_13 => ?_)
    refine lv_iconst (v := 0) hx hb dX0_sees_66 (by decide) ?_
    refine lv_istore (lv' := [(7, .int 0), (6, .int 2), (0, .ref (a 0)), (1, .int (nI nn)), (2, .ref qr), (4, .int mm), (5, .int (nI i))]) hx hb dX0_sees_67 hl (by decide) rfl (fun ls hl => ?_)
    refine lx_turnZ G t A a cs K (mnX many i) settings isVoted ((seeX i qa qb qc mm (dir, seed)).2) keyOne keyTwo votes looked matched without trio takenStar takenAs takenSpot pairs starArms spotArms isTurn places byStar byFar one usedNow laidMany finding dir nn qr qf qa qb qc mm i (fz (fun _ => rotY) qb (fz (fun _ => rotX) qa ((seeX i qa qb qc mm (dir, seed)).1 (36 * 0 + 3 * i + 0), (seeX i qa qb qc mm (dir, seed)).1 (36 * 0 + 3 * i + 1), (seeX i qa qb qc mm (dir, seed)).1 (36 * 0 + 3 * i + 2)))) _ _ mq1 fq1 hqa hqb hqc la lb lc (by omega) (by omega) hx hb hml hown hts hK hD hA hE (qc - 0) 0 (by omega) (by omega) _ hR_v_12 _ _ _ hP hS (lv_sub hl [2, 3, 4, 5, 6, 1, 0] rfl) (fun seen_v_14 hR_v_14 H locs ls hP hS hl => ?_)
    refine lv_iinc (v := 3) (lv' := [(6, .int 3), (0, .ref (a 0)), (1, .int (nI nn)), (2, .ref qr), (4, .int mm), (5, .int (nI i)), (7, .int (nI qc))]) hx hb dX0_sees_103 hl (k := 5) rfl (by decide) (by decide) rfl (fun ls hl => ?_)
    refine lv_goto (tgt := 60) hx hb dX0_sees_106 (by decide) ?_
    refine lv_iload hx hb dX0_sees_60 (lv_at hl 0 rfl) ?_
    refine lv_iconst (v := 3) hx hb dX0_sees_62 (by decide) ?_
    refine lv_icmp_ge (tgt := 109) hx hb dX0_sees_63 (by decide) (fun c_15 => ?_) (fun c_15 => absurd c_15 (by decide))
    refine lv_aload_n hx hb dX0_sees_109 rfl (lv_at hl 1 rfl) ?_
    refine lv_iload hx hb dX0_sees_110 (lv_at hl 4 rfl) ?_
    refine va_callv (va_runV (As := [.int mm]) (rest := []) ⟨hx, hb, hml, hown, hts⟩ (mx_noises l G t A a cs K (mnX many i) settings isVoted ((seeX i qa qb qc mm (dir, seed)).2) seen_v_14 keyOne keyTwo votes looked matched without trio takenStar takenAs takenSpot pairs starArms spotArms isTurn places byStar byFar one usedNow laidMany finding ((seeX i qa qb qc mm (dir, seed)).1) mm hm) (cwV 1 hts (lw_V q222 q224 qs5 q80 q225) rfl rfl rfl cd_X0_noises ⟨Nat.le_of_ble_eq_true rfl, Nat.le_of_ble_eq_true rfl⟩) ⟨xPr_fb, x_recv hP hK, fun U hU hW => ⟨rfl, xPr_of hP hK hD hS hA hE hU hW⟩⟩ rfl rfl hl.1 rfl (lv_room (Nat.le_of_ble_eq_true rfl)) dX0_sees_112 ⟨(by show _ ≤ 8; omega), (by show _ ≤ 24; omega)⟩) hS (fun _ _ h => h) (fun _ h => h) (fun u tt H locs ht _ hq hP _ hkp hS => ?_)
    obtain ⟨u_16, seen_u_16⟩ := u
    obtain ⟨rfl, hR_17⟩ := hq
    have hP : va_P G vwCl (Xx t a K (mnX many i) settings isVoted ((nsX ((seeX i qa qb qc mm (dir, seed)).2) (tri seen_v_14) mm).2) seen_u_16 keyOne keyTwo votes looked matched without trio takenStar takenAs takenSpot pairs starArms spotArms isTurn places byStar byFar one usedNow laidMany finding) H := by rw [← ht]; exact hP
    refine lv_aload_n hx hb dX0_sees_115 rfl (lv_at hl 1 rfl) ?_
    refine lv_iconst (v := 1) hx hb dX0_sees_116 (by decide) ?_
    refine lv_aload_n hx hb dX0_sees_117 rfl (lv_at hl 1 rfl) ?_
    refine va_get (D := G) (ci := 0) (C := RX0) (T := TX0) (N := 32) hx hb hts in_X0 hown hK hP 0 xk_this rfl 8 (by decide) (hts _ q641) (fun _ h => h) rfl dX0_sees_118 ?_
    refine lv_iconst (v := 0) hx hb dX0_sees_121 (by decide) ?_
    refine r_iald hx hb hK hP 10 0 xk_seen rfl (f := seen_u_16) 0 (nI_q 0) (by decide) (by decide) dX0_sees_122 ?_
    refine lv_aload_n hx hb dX0_sees_123 rfl (lv_at hl 1 rfl) ?_
    refine va_get (D := G) (ci := 0) (C := RX0) (T := TX0) (N := 32) hx hb hts in_X0 hown hK hP 0 xk_this rfl 8 (by decide) (hts _ q641) (fun _ h => h) rfl dX0_sees_124 ?_
    refine lv_iconst (v := 1) hx hb dX0_sees_127 (by decide) ?_
    refine r_iald hx hb hK hP 10 0 xk_seen rfl (f := seen_u_16) 1 (nI_q 1) (by decide) (by decide) dX0_sees_128 ?_
    refine lv_aload_n hx hb dX0_sees_129 rfl (lv_at hl 1 rfl) ?_
    refine va_get (D := G) (ci := 0) (C := RX0) (T := TX0) (N := 32) hx hb hts in_X0 hown hK hP 0 xk_this rfl 8 (by decide) (hts _ q641) (fun _ h => h) rfl dX0_sees_130 ?_
    refine lv_iconst (v := 2) hx hb dX0_sees_133 (by decide) ?_
    refine r_iald hx hb hK hP 10 0 xk_seen rfl (f := seen_u_16) 2 (nI_q 2) (by decide) (by decide) dX0_sees_134 ?_
    refine r_stk (st' := [.int (seen_u_16 2), .int (seen_u_16 1), .int (seen_u_16 0), .int (nI 1), .ref (a 0)]) (lc_k (lc_k (lc_k (lc_i (nI_q 1) rfl)))) ?_
    refine va_callv (va_runV (As := [.int (nI 1), .int (seen_u_16 0), .int (seen_u_16 1), .int (seen_u_16 2)]) (rest := []) ⟨hx, hb, hml, hown, hts⟩ (mx_keeps l G t A a cs K (mnX many i) settings isVoted ((nsX ((seeX i qa qb qc mm (dir, seed)).2) (tri seen_v_14) mm).2) seen_u_16 keyOne keyTwo votes looked matched without trio takenStar takenAs takenSpot pairs starArms spotArms isTurn places byStar byFar one usedNow laidMany finding ((seeX i qa qb qc mm (dir, seed)).1) 1 (seen_u_16 0) (seen_u_16 1) (seen_u_16 2) hM hB (by decide) (by rw [hk1]; show i < 8; omega)) (cwV 4 hts (lw_V q119 q121 qs1 q80 q122) rfl rfl rfl cd_X0_keeps ⟨Nat.le_of_ble_eq_true rfl, Nat.le_of_ble_eq_true rfl⟩) ⟨xPr_fb, x_recv hP hK, fun U hU hW => ⟨rfl, xPr_of hP hK hD hS hA hE hU hW⟩⟩ rfl rfl hl.1 rfl (lv_room (Nat.le_of_ble_eq_true rfl)) dX0_sees_135 ⟨(by show _ ≤ 8; omega), (by show _ ≤ 24; omega)⟩) hS (fun _ _ h => h) (fun _ h => h) (fun u tt H locs ht _ hq hP _ hkp hS => ?_)
    obtain ⟨u_18, K_u_18⟩ := u
    obtain ⟨rfl, hR_19⟩ := hq
    have hP : va_P G vwCl (Xx t a K_u_18 (upd (mnX many i) 1 ((mnX many i) 1 + 1)) settings 0 ((nsX ((seeX i qa qb qc mm (dir, seed)).2) (tri seen_v_14) mm).2) seen_u_16 keyOne keyTwo votes looked matched without trio takenStar takenAs takenSpot pairs starArms spotArms isTurn places byStar byFar one usedNow laidMany finding) H := by rw [← ht]; exact hP
    refine lv_iinc (v := nI (i + 1)) (lv' := [(5, .int (nI (i + 1))), (6, .int 3), (0, .ref (a 0)), (1, .int (nI nn)), (2, .ref qr), (4, .int mm), (7, .int (nI qc))]) hx hb dX0_sees_138 hl (k := 5) rfl (iinc_nI rfl) (by decide) rfl (fun ls hl => ?_)
    refine lv_goto (tgt := 15) hx hb dX0_sees_141 (by decide) ?_
    have hse := sees_e (s := (seeX i qa qb qc mm (dir, seed))) hR_v_14 hR_17 hk1
    have hP : va_P G vwCl (Xx t a K_u_18 (mnX many (i + 1)) settings 0 ((seeX (i + 1) qa qb qc mm (dir, seed)).2) seen_u_16 keyOne keyTwo votes looked matched without trio takenStar takenAs takenSpot pairs starArms spotArms isTurn places byStar byFar one usedNow laidMany finding) H := by rw [seeX_s, ← hse.2, ← mnX_s]; exact hP
    exact ih (i + 1) (by omega) (by omega) _ _ _ ⟨hR_19.1, hR.2.1.trans hR_19.2.1, (by rw [seeX_s, ← hse.1, ← mnX_s]; exact hR_19.2.2)⟩ _ _ _ hP hS (lv_sub hl [2, 3, 4, 5, 0] rfl) hex

set_option maxHeartbeats 4000000 in
theorem mx_sees (l : Launch) (G : va_G) (t : Nat → ClassId) (A : Nat → Prop) (a : Nat → Nat) (cs : Nat → ClassId) (K : XK) (many : (Nat → Int32)) (settings : (Nat → Int32)) (isVoted : Int32) (lotsNow : Int32) (seen : (Nat → Int32)) (keyOne : (Nat → Int32)) (keyTwo : (Nat → Int32)) (votes : (Nat → Int32)) (looked : Int32) (matched : Int32) (without : Int32) (trio : (Nat → Int32)) (takenStar : (Nat → Int32)) (takenAs : (Nat → Int32)) (takenSpot : (Nat → Int32)) (pairs : Int32) (starArms : (Nat → Int64)) (spotArms : (Nat → Int64)) (isTurn : Int32) (places : (Nat → Int32)) (byStar : (Nat → Int32)) (byFar : (Nat → Int32)) (one : (Nat → Int64)) (usedNow : (Nat → Int32)) (laidMany : (Nat → Int32)) (finding : Int32) (dir : (Nat → Int32)) (nn : Nat) (qr : Nat) (qf : Nat → Int32) (qa : Nat) (qb : Nat) (qc : Nat) (seed : Int32) (mm : Int32) (hM : Mok many) (hB : BodOk K dir many) (mq : qr ∈ K.L) (fq : K.f qr = .inl (t 0, 3, .inl qf)) (hqa : qf 0 = nI qa) (hqb : qf 1 = nI qb) (hqc : qf 2 = nI qc) (la : qa ≤ 3) (lb : qb ≤ 3) (lc : qc ≤ 3) (hn8 : nn ≤ 8) (hn0 : nn ≤ nK many 0) (hm : mm = 0 ∨ (0 < mm ∧ ¬ 2 * mm + 1 = 0)) : Met l yX0_sees (ws_ yX0_sees cX0_sees 8 (some .int)) (rm_ 0 4 8 24) (va_Pc [.ref (a 0), .int (nI nn), .ref qr, .int seed, .int mm] (xPr G t A a cs K.L (Xx t a K many settings isVoted lotsNow seen keyOne keyTwo votes looked matched without trio takenStar takenAs takenSpot pairs starArms spotArms isTurn places byStar byFar one usedNow laidMany finding))) (va_Qi (fun rv (uv : ((Nat → Int32) × Int32 × Int32) × XK × (Nat → Int32)) => rv = nI nn ∧ uv.1 = ((mnX many nn), 0, (seeX nn qa qb qc mm (dir, seed)).2) ∧ GrX A a K uv.2.1 (seeX nn qa qb qc mm (dir, seed)).1 (mnX many nn)) (mB G (fun (uv : ((Nat → Int32) × Int32 × Int32) × XK × (Nat → Int32)) => Xx t a uv.2.1 uv.1.1 settings uv.1.2.1 uv.1.2.2 uv.2.2 keyOne keyTwo votes looked matched without trio takenStar takenAs takenSpot pairs starArms spotArms isTurn places byStar byFar one usedNow laidMany finding)) A) 8 24 A := by
  refine mkx_W (by decide) (Nat.le_of_ble_eq_true rfl) ?_
  intro p e s m below meth c ls hx hb hml hr hlk hts hown hnm hv hl
  obtain ⟨hP, hK, hD, hA, hE⟩ := hv
  have hS : va_S A s.heap s.heap [] := va_S.rf
  have hl : lv_has ls 8 [(0, .ref (a 0)), (1, .int (nI nn)), (2, .ref qr), (3, .int seed), (4, .int mm)] := hl
  refine lv_aload_n hx hb dX0_sees_0 rfl (lv_at hl 0 rfl) ?_
  refine lv_iload_n hx hb dX0_sees_1 rfl (lv_at hl 3 rfl) ?_
  refine va_put (D := G) (ci := 0) (v := .int seed) (ty := .int) (C := RX0) (T := TX0) (N := 32) hx hb hts in_X0 tyX0 tyX0_ok nmX0 hown hK hP (xD hD) hS 0 xk_this rfl 7 (by decide) (hts _ q640) (fun _ h => h) rfl (by decide +kernel) rfl rfl (Nat.le_of_ble_eq_true rfl) dX0_sees_2 (fun H locs hP _ hS => ?_)
  have hP : va_P G vwCl (Xx t a K many settings isVoted seed seen keyOne keyTwo votes looked matched without trio takenStar takenAs takenSpot pairs starArms spotArms isTurn places byStar byFar one usedNow laidMany finding) H := by rw [xs_lotsNow] at hP; exact hP
  refine lv_aload_n hx hb dX0_sees_5 rfl (lv_at hl 0 rfl) ?_
  refine va_get (D := G) (ci := 0) (C := RX0) (T := TX0) (N := 32) hx hb hts in_X0 hown hK hP 0 xk_this rfl 4 (by decide) (hts _ q637) (fun _ h => h) rfl dX0_sees_6 ?_
  refine lv_iconst (v := 1) hx hb dX0_sees_9 (by decide) ?_
  refine lv_iconst (v := 0) hx hb dX0_sees_10 (by decide) ?_
  refine r_iast hx hb hK hP (xD hD) hS 8 0 xk_many rfl 1 (nI_q 1) (by decide) (by decide) dX0_sees_11 (ws' := Xx t a K (upd many 1 0) settings isVoted seed seen keyOne keyTwo votes looked matched without trio takenStar takenAs takenSpot pairs starArms spotArms isTurn places byStar byFar one usedNow laidMany finding) (xs_many _) (fun H locs hP hS => ?_)
  refine lv_iconst (v := 0) hx hb dX0_sees_12 (by decide) ?_
  refine lv_istore (lv' := [(5, .int 0), (0, .ref (a 0)), (1, .int (nI nn)), (2, .ref qr), (3, .int seed), (4, .int mm)]) hx hb dX0_sees_13 hl (by decide) rfl (fun ls hl => ?_)
  have hP : va_P G vwCl (Xx t a K (mnX many 0) settings isVoted ((seeX 0 qa qb qc mm (dir, seed)).2) seen keyOne keyTwo votes looked matched without trio takenStar takenAs takenSpot pairs starArms spotArms isTurn places byStar byFar one usedNow laidMany finding) H := by exact hP
  refine lx_sees G t A a cs many settings lotsNow keyOne keyTwo votes looked matched without trio takenStar takenAs takenSpot pairs starArms spotArms isTurn places byStar byFar one usedNow laidMany finding dir nn qr qf qa qb qc seed mm K hM mq fq hqa hqb hqc (by omega) (by omega) (by omega) (by omega) (by omega) hm hx hb hml hown hts hK hA hE (nn - 0) 0 (by omega) (by omega) _ _ _ ⟨hD, Grw.rf K, bod_0 hB⟩ _ _ _ hP hS (lv_sub hl [1, 2, 3, 5, 0] rfl) (fun K_v_1 isVoted_v_1 seen_v_1 hR_v_1 H locs ls hP hS hl => ?_)
  have hD : XD A a K_v_1.L := hR_v_1.1
  refine lv_aload_n hx hb dX0_sees_144 rfl (lv_at hl 0 rfl) ?_
  refine lv_iconst (v := 0) hx hb dX0_sees_145 (by decide) ?_
  refine va_put (D := G) (ci := 0) (v := .int 0) (ty := .boolean) (C := RX0) (T := TX0) (N := 32) hx hb hts in_X0 tyX0 tyX0_ok nmX0 hown hK hP (xD hD) hS 0 xk_this rfl 6 (by decide) (hts _ q639) (fun _ h => h) rfl (by decide +kernel) rfl rfl (Nat.le_of_ble_eq_true rfl) dX0_sees_146 (fun H locs hP _ hS => ?_)
  have hP : va_P G vwCl (Xx t a K_v_1 (mnX many nn) settings 0 ((seeX nn qa qb qc mm (dir, seed)).2) seen_v_1 keyOne keyTwo votes looked matched without trio takenStar takenAs takenSpot pairs starArms spotArms isTurn places byStar byFar one usedNow laidMany finding) H := by rw [xs_isVoted] at hP; exact hP
  refine lv_iload_n hx hb dX0_sees_149 rfl (lv_at hl 1 rfl) ?_
  refine W.widen (k := 8) (n := 24) hn8 (by omega) ?_
  exact W.iret (v := nI nn) hx hb hr (fun tt ht _ => ⟨⟨_, (((mnX many nn), 0, (seeX nn qa qb qc mm (dir, seed)).2), K_v_1, seen_v_1), rfl, ⟨rfl, rfl, hR_v_1⟩, (show va_P G vwCl ((fun (uv : ((Nat → Int32) × Int32 × Int32) × XK × (Nat → Int32)) => Xx t a uv.2.1 uv.1.1 settings uv.1.2.1 uv.1.2.2 uv.2.2 keyOne keyTwo votes looked matched without trio takenStar takenAs takenSpot pairs starArms spotArms isTurn places byStar byFar one usedNow laidMany finding) (((mnX many nn), 0, (seeX nn qa qb qc mm (dir, seed)).2), K_v_1, seen_v_1)) tt.heap from by rw [ht]; exact hP)⟩, hS.F ht⟩) hS.2.2 dX0_sees_150 hlk
