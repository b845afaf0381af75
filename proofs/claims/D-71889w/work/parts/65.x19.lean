/-! the tracker: laid, lose -/
section XKS
variable {t : Nat → ClassId} {a : Nat → Nat} {K : XK} {many : (Nat → Int32)} {settings : (Nat → Int32)} {isVoted : Int32} {lotsNow : Int32} {seen : (Nat → Int32)} {keyOne : (Nat → Int32)} {keyTwo : (Nat → Int32)} {votes : (Nat → Int32)} {looked : Int32} {matched : Int32} {without : Int32} {trio : (Nat → Int32)} {takenStar : (Nat → Int32)} {takenAs : (Nat → Int32)} {takenSpot : (Nat → Int32)} {pairs : Int32} {starArms : (Nat → Int64)} {spotArms : (Nat → Int64)} {isTurn : Int32} {places : (Nat → Int32)} {byStar : (Nat → Int32)} {byFar : (Nat → Int32)} {one : (Nat → Int64)} {usedNow : (Nat → Int32)} {laidMany : (Nat → Int32)} {finding : Int32}
theorem xs_row {s9 : Nat} (hs : s9 < 4) (v : Option Nat) : (Xx t a K many settings isVoted lotsNow seen keyOne keyTwo votes looked matched without trio takenStar takenAs takenSpot pairs starArms spotArms isTurn places byStar byFar one usedNow laidMany finding).set (54 + s9) (a (54 + s9), .inr (2, [.int (K.fo s9), va_rf v])) = Xx t a (K.row s9 v) many settings isVoted lotsNow seen keyOne keyTwo votes looked matched without trio takenStar takenAs takenSpot pairs starArms spotArms isTurn places byStar byFar one usedNow laidMany finding := by
  match s9, hs with
  | 0, _ => exact (xx_set (by decide) _).trans rfl
  | 1, _ => exact (xx_set (by decide) _).trans rfl
  | 2, _ => exact (xx_set (by decide) _).trans rfl
  | 3, _ => exact (xx_set (by decide) _).trans rfl
  | s9 + 4, h => exact absurd h (by omega)
theorem xs_frm {s9 : Nat} (hs : s9 < 4) (v : Int32) : (Xx t a K many settings isVoted lotsNow seen keyOne keyTwo votes looked matched without trio takenStar takenAs takenSpot pairs starArms spotArms isTurn places byStar byFar one usedNow laidMany finding).set (54 + s9) (a (54 + s9), .inr (2, [.int v, va_rf (K.ro s9)])) = Xx t a (K.frm s9 v) many settings isVoted lotsNow seen keyOne keyTwo votes looked matched without trio takenStar takenAs takenSpot pairs starArms spotArms isTurn places byStar byFar one usedNow laidMany finding := by
  match s9, hs with
  | 0, _ => exact (xx_set (by decide) _).trans rfl
  | 1, _ => exact (xx_set (by decide) _).trans rfl
  | 2, _ => exact (xx_set (by decide) _).trans rfl
  | 3, _ => exact (xx_set (by decide) _).trans rfl
  | s9 + 4, h => exact absurd h (by omega)
end XKS
set_option maxHeartbeats 4000000 in
theorem mx_laidH (l : Launch) (G : va_G) (t : Nat → ClassId) (A : Nat → Prop) (a : Nat → Nat) (cs : Nat → ClassId) (K : XK) (many : (Nat → Int32)) (settings : (Nat → Int32)) (isVoted : Int32) (lotsNow : Int32) (seen : (Nat → Int32)) (keyOne : (Nat → Int32)) (keyTwo : (Nat → Int32)) (votes : (Nat → Int32)) (looked : Int32) (matched : Int32) (without : Int32) (trio : (Nat → Int32)) (takenStar : (Nat → Int32)) (takenAs : (Nat → Int32)) (takenSpot : (Nat → Int32)) (pairs : Int32) (starArms : (Nat → Int64)) (spotArms : (Nat → Int64)) (isTurn : Int32) (places : (Nat → Int32)) (byStar : (Nat → Int32)) (byFar : (Nat → Int32)) (one : (Nat → Int64)) (usedNow : (Nat → Int32)) (laidMany : (Nat → Int32)) (finding : Int32) (dir : (Nat → Int32)) (q : Nat) (fm : Nat) (n9 : Nat) (g : Nat → Int32) (j : Nat) (v : Int32) (hfm : fm < 3) (hn9 : n9 ≤ 60) (mq : q ∈ K.L) (fq : K.f q = .inl (t (sT fm), n9, .inl g)) (hj : j < n9) : Met l yX0_laid (ws_ yX0_laid cX0_laid 4 (none)) (rm_ 0 0 0 0) (va_Pc [.ref q, .int (nI fm), .int (nI j), .int v] (xPr G t A a cs K.L (Xx t a K many settings isVoted lotsNow seen keyOne keyTwo votes looked matched without trio takenStar takenAs takenSpot pairs starArms spotArms isTurn places byStar byFar one usedNow laidMany finding))) (va_Qv (fun (uv : XK) => uv = (K.put q (.inl (t (sT fm), n9, .inl (upd g j (cutF (nI fm) v)))))) (mB G (fun (uv : XK) => Xx t a uv many settings isVoted lotsNow seen keyOne keyTwo votes looked matched without trio takenStar takenAs takenSpot pairs starArms spotArms isTurn places byStar byFar one usedNow laidMany finding)) A) 0 0 A := by
  refine mkx_W (by decide) (Nat.le_of_ble_eq_true rfl) ?_
  intro p e s m below meth c ls hx hb hml hr hlk hts hown hnm hv hl
  obtain ⟨hP, hK, hD, hA, hE⟩ := hv
  have hS : va_S A s.heap s.heap [] := va_S.rf
  have hl : lv_has ls 4 [(0, .ref q), (1, .int (nI fm)), (2, .int (nI j)), (3, .int v)] := hl
  rcases (show fm = 0 ∨ fm = 1 ∨ fm = 2 by omega) with rfl | rfl | rfl
  · refine lv_iload_n hx hb dX0_laid_0 rfl (lv_at hl 1 rfl) ?_
    refine lv_lookup (off := 27) (tgt := 28) hx hb dX0_laid_1 (by decide) (by decide) (by decide) ?_
    refine lv_aload_n hx hb dX0_laid_28 rfl (lv_at hl 0 rfl) ?_
    refine va_castA hx hb hown (hts _ q201) (x_pool hP mq fq) 0 rfl (xk_nmB hK) dX0_laid_29 ?_
    refine lv_iload_n hx hb dX0_laid_32 rfl (lv_at hl 2 rfl) ?_
    refine lv_iload_n hx hb dX0_laid_33 rfl (lv_at hl 3 rfl) ?_
    refine lv_i2b (v := (v : Int32).toInt8.toInt32) hx hb dX0_laid_34 rfl ?_
    obtain ⟨j9, hj9, hset⟩ := xx_place (t := t) (a := a) (K := K) (many := many) (settings := settings) (isVoted := isVoted) (lotsNow := lotsNow) (seen := seen) (keyOne := keyOne) (keyTwo := keyTwo) (votes := votes) (looked := looked) (matched := matched) (without := without) (trio := trio) (takenStar := takenStar) (takenAs := takenAs) (takenSpot := takenSpot) (pairs := pairs) (starArms := starArms) (spotArms := spotArms) (isTurn := isTurn) (places := places) (byStar := byStar) (byFar := byFar) (one := one) (usedNow := usedNow) (laidMany := laidMany) (finding := finding) (q := q) mq
    have hj9 : (Xx t a K many settings isVoted lotsNow seen keyOne keyTwo votes looked matched without trio takenStar takenAs takenSpot pairs starArms spotArms isTurn places byStar byFar one usedNow laidMany finding)[j9]? = some (q, .inl (t (sT 0), n9, .inl g)) := by rw [hj9, fq]
    refine va_bast hx hb hK hP (xD hD) hS j9 3 hj9 rfl (nI_in hj (by omega)) dX0_laid_35 (fun H locs hP _ hS => ?_)
    have hP : va_P G vwCl (Xx t a (K.put q (.inl (t (sT 0), n9, .inl (upd g j (cutF (nI 0) v))))) many settings isVoted lotsNow seen keyOne keyTwo votes looked matched without trio takenStar takenAs takenSpot pairs starArms spotArms isTurn places byStar byFar one usedNow laidMany finding) H := by rw [tn_nI (by omega), cut_B] at hP; rw [← hset A _ (xD hD)]; exact hP
    refine lv_goto (tgt := 57) hx hb dX0_laid_36 (by decide) ?_
    exact W.vret hx hb hr (fun tt ht _ => ⟨⟨(K.put q (.inl (t (sT 0), n9, .inl (upd g j (cutF (nI 0) v))))), rfl, rfl, (show va_P G vwCl ((fun (uv : XK) => Xx t a uv many settings isVoted lotsNow seen keyOne keyTwo votes looked matched without trio takenStar takenAs takenSpot pairs starArms spotArms isTurn places byStar byFar one usedNow laidMany finding) (K.put q (.inl (t (sT 0), n9, .inl (upd g j (cutF (nI 0) v)))))) tt.heap from by rw [ht]; exact hP)⟩, hS.F ht⟩) hS.2.2 dX0_laid_57 hlk
  · refine lv_iload_n hx hb dX0_laid_0 rfl (lv_at hl 1 rfl) ?_
    refine lv_lookup (off := 38) (tgt := 39) hx hb dX0_laid_1 (by decide) (by decide) (by decide) ?_
    refine lv_aload_n hx hb dX0_laid_39 rfl (lv_at hl 0 rfl) ?_
    refine va_castA hx hb hown (hts _ q202) (x_pool hP mq fq) 0 rfl (xk_nmS hK) dX0_laid_40 ?_
    refine lv_iload_n hx hb dX0_laid_43 rfl (lv_at hl 2 rfl) ?_
    refine lv_iload_n hx hb dX0_laid_44 rfl (lv_at hl 3 rfl) ?_
    refine lv_i2s (v := (v : Int32).toInt16.toInt32) hx hb dX0_laid_45 rfl ?_
    obtain ⟨j9, hj9, hset⟩ := xx_place (t := t) (a := a) (K := K) (many := many) (settings := settings) (isVoted := isVoted) (lotsNow := lotsNow) (seen := seen) (keyOne := keyOne) (keyTwo := keyTwo) (votes := votes) (looked := looked) (matched := matched) (without := without) (trio := trio) (takenStar := takenStar) (takenAs := takenAs) (takenSpot := takenSpot) (pairs := pairs) (starArms := starArms) (spotArms := spotArms) (isTurn := isTurn) (places := places) (byStar := byStar) (byFar := byFar) (one := one) (usedNow := usedNow) (laidMany := laidMany) (finding := finding) (q := q) mq
    have hj9 : (Xx t a K many settings isVoted lotsNow seen keyOne keyTwo votes looked matched without trio takenStar takenAs takenSpot pairs starArms spotArms isTurn places byStar byFar one usedNow laidMany finding)[j9]? = some (q, .inl (t (sT 1), n9, .inl g)) := by rw [hj9, fq]
    refine va_sast hx hb hK hP (xD hD) hS j9 4 hj9 rfl (nI_in hj (by omega)) dX0_laid_46 (fun H locs hP _ hS => ?_)
    have hP : va_P G vwCl (Xx t a (K.put q (.inl (t (sT 1), n9, .inl (upd g j (cutF (nI 1) v))))) many settings isVoted lotsNow seen keyOne keyTwo votes looked matched without trio takenStar takenAs takenSpot pairs starArms spotArms isTurn places byStar byFar one usedNow laidMany finding) H := by rw [tn_nI (by omega), cut_S] at hP; rw [← hset A _ (xD hD)]; exact hP
    refine lv_goto (tgt := 57) hx hb dX0_laid_47 (by decide) ?_
    exact W.vret hx hb hr (fun tt ht _ => ⟨⟨(K.put q (.inl (t (sT 1), n9, .inl (upd g j (cutF (nI 1) v))))), rfl, rfl, (show va_P G vwCl ((fun (uv : XK) => Xx t a uv many settings isVoted lotsNow seen keyOne keyTwo votes looked matched without trio takenStar takenAs takenSpot pairs starArms spotArms isTurn places byStar byFar one usedNow laidMany finding) (K.put q (.inl (t (sT 1), n9, .inl (upd g j (cutF (nI 1) v)))))) tt.heap from by rw [ht]; exact hP)⟩, hS.F ht⟩) hS.2.2 dX0_laid_57 hlk
  · refine lv_iload_n hx hb dX0_laid_0 rfl (lv_at hl 1 rfl) ?_
    refine lv_lookup (off := 49) (tgt := 50) hx hb dX0_laid_1 (by decide) (by decide) (by decide) ?_
    refine lv_aload_n hx hb dX0_laid_50 rfl (lv_at hl 0 rfl) ?_
    refine va_castA hx hb hown (hts _ q203) (x_pool hP mq fq) 0 rfl (xk_nmI hK) dX0_laid_51 ?_
    refine lv_iload_n hx hb dX0_laid_54 rfl (lv_at hl 2 rfl) ?_
    refine lv_iload_n hx hb dX0_laid_55 rfl (lv_at hl 3 rfl) ?_
    obtain ⟨j9, hj9, hset⟩ := xx_place (t := t) (a := a) (K := K) (many := many) (settings := settings) (isVoted := isVoted) (lotsNow := lotsNow) (seen := seen) (keyOne := keyOne) (keyTwo := keyTwo) (votes := votes) (looked := looked) (matched := matched) (without := without) (trio := trio) (takenStar := takenStar) (takenAs := takenAs) (takenSpot := takenSpot) (pairs := pairs) (starArms := starArms) (spotArms := spotArms) (isTurn := isTurn) (places := places) (byStar := byStar) (byFar := byFar) (one := one) (usedNow := usedNow) (laidMany := laidMany) (finding := finding) (q := q) mq
    have hj9 : (Xx t a K many settings isVoted lotsNow seen keyOne keyTwo votes looked matched without trio takenStar takenAs takenSpot pairs starArms spotArms isTurn places byStar byFar one usedNow laidMany finding)[j9]? = some (q, .inl (t (sT 2), n9, .inl g)) := by rw [hj9, fq]
    refine r_iast hx hb hK hP (xD hD) hS j9 0 hj9 rfl j rfl hj (by omega) dX0_laid_56 (hset A _ (xD hD)) (fun H locs hP hS => ?_)
    have hP : va_P G vwCl (Xx t a (K.put q (.inl (t (sT 2), n9, .inl (upd g j (cutF (nI 2) v))))) many settings isVoted lotsNow seen keyOne keyTwo votes looked matched without trio takenStar takenAs takenSpot pairs starArms spotArms isTurn places byStar byFar one usedNow laidMany finding) H := hP
    exact W.vret hx hb hr (fun tt ht _ => ⟨⟨(K.put q (.inl (t (sT 2), n9, .inl (upd g j (cutF (nI 2) v))))), rfl, rfl, (show va_P G vwCl ((fun (uv : XK) => Xx t a uv many settings isVoted lotsNow seen keyOne keyTwo votes looked matched without trio takenStar takenAs takenSpot pairs starArms spotArms isTurn places byStar byFar one usedNow laidMany finding) (K.put q (.inl (t (sT 2), n9, .inl (upd g j (cutF (nI 2) v)))))) tt.heap from by rw [ht]; exact hP)⟩, hS.F ht⟩) hS.2.2 dX0_laid_57 hlk

set_option maxHeartbeats 4000000 in
theorem mx_lose (l : Launch) (G : va_G) (t : Nat → ClassId) (A : Nat → Prop) (a : Nat → Nat) (cs : Nat → ClassId) (K : XK) (many : (Nat → Int32)) (settings : (Nat → Int32)) (isVoted : Int32) (lotsNow : Int32) (seen : (Nat → Int32)) (keyOne : (Nat → Int32)) (keyTwo : (Nat → Int32)) (votes : (Nat → Int32)) (looked : Int32) (matched : Int32) (without : Int32) (trio : (Nat → Int32)) (takenStar : (Nat → Int32)) (takenAs : (Nat → Int32)) (takenSpot : (Nat → Int32)) (pairs : Int32) (starArms : (Nat → Int64)) (spotArms : (Nat → Int64)) (isTurn : Int32) (places : (Nat → Int32)) (byStar : (Nat → Int32)) (byFar : (Nat → Int32)) (one : (Nat → Int64)) (usedNow : (Nat → Int32)) (laidMany : (Nat → Int32)) (finding : Int32) (dir : (Nat → Int32)) (si : Int32) (forms : Nat → Int32) (sizes : Nat → Int32) (items : Nat → Int32) (hSh : ShtOk t K forms sizes items) : Met l yX0_lose (ws_ yX0_lose cX0_lose 3 (some .int)) (rm_ 0 2 0 0) (va_Pc [.ref (a 0), .int si] (xPr G t A a cs K.L (Xx t a K many settings isVoted lotsNow seen keyOne keyTwo votes looked matched without trio takenStar takenAs takenSpot pairs starArms spotArms isTurn places byStar byFar one usedNow laidMany finding))) (va_Qi (fun rv (uv : (Int32) × XK) => rv = (if rng si 0 3 then (if 0 ≤ forms si.toNatClampNeg then sizes si.toNatClampNeg else -11) else -2) ∧ uv.1 = (if rng si 0 3 ∧ ¬ 0 ≤ forms si.toNatClampNeg then 1 else finding) ∧ (Lays K uv.2 ∧ ShtOk t uv.2 (if rng si 0 3 ∧ 0 ≤ forms si.toNatClampNeg then upd forms si.toNatClampNeg (-1) else forms) sizes items)) (mB G (fun (uv : (Int32) × XK) => Xx t a uv.2 many settings isVoted lotsNow seen keyOne keyTwo votes looked matched without trio takenStar takenAs takenSpot pairs starArms spotArms isTurn places byStar byFar one usedNow laidMany uv.1)) A) 0 0 A := by
  refine mkx_W (by decide) (Nat.le_of_ble_eq_true rfl) ?_
  intro p e s m below meth c ls hx hb hml hr hlk hts hown hnm hv hl
  obtain ⟨hP, hK, hD, hA, hE⟩ := hv
  have hS : va_S A s.heap s.heap [] := va_S.rf
  have hl : lv_has ls 3 [(0, .ref (a 0)), (1, .int si)] := hl
  refine lv_iload_n hx hb dX0_lose_0 rfl (lv_at hl 1 rfl) ?_
  refine vp_callSi (W.runS (As := [.int si]) (rest := []) ⟨hx, hb, hml, hown, hts⟩ (mx_isSheet l si) (va_cwS 1 hts (lw_S q180 q181 q80 q182) rfl rfl rfl cd_X0_isSheet.2 ⟨Nat.le_of_ble_eq_true rfl, Nat.le_of_ble_eq_true rfl⟩) ⟨pT_fb, fun U hU hW => ⟨rfl, trivial⟩⟩ rfl rfl hl.1 rfl (lv_room (Nat.le_of_ble_eq_true rfl)) dX0_lose_1 ⟨Nat.le_of_ble_eq_true rfl, Nat.le_of_ble_eq_true rfl⟩) (fun r hr => ?_)
  subst hr
  refine rb_ne (tgt := 10) hx hb dX0_lose_4 (by decide) (fun c_1 => ?_) (fun c_1 => ?_)
  · have hc4 := c_1
    obtain ⟨s9, hs9, rfl⟩ := rng_ex (n := 3) c_1
    have es : (nI s9).toNatClampNeg = s9 := tn_nI (by omega)
    have hs9 : s9 < 4 := by omega
    refine lv_aload_n hx hb dX0_lose_10 rfl (lv_at hl 0 rfl) ?_
    refine va_get (D := G) (ci := 0) (C := RX0) (T := TX0) (N := 32) hx hb hts in_X0 hown hK hP 0 xk_this rfl 30 (by decide) (hts _ q663) (fun _ h => h) rfl dX0_lose_11 ?_
    refine lv_iload_n hx hb dX0_lose_14 rfl (lv_at hl 1 rfl) ?_
    refine xq_aald (r := .ref (a (54 + s9))) hx hb hK hP 53 9 xk_sheets rfl rfl s9 rfl (by omega) (by decide) rfl dX0_lose_15 ?_
    rcases hSh.1 s9 hs9 with ⟨hf9, hro⟩ | ⟨fm, n9, g, hf9, hz9, ⟨hfo, hfm, hn9, q, hro, mq, fq⟩, hgi⟩
    · have hneg : ¬ (0 : Int32) ≤ forms s9 := by rw [hf9]; decide
      have hnp : ¬ (rng (nI s9) 0 3 ∧ 0 ≤ forms (nI s9).toNatClampNeg) := fun q9 => hneg (by have := q9.2; rw [es] at this; exact this)
      have hfi : rng (nI s9) 0 3 ∧ ¬ 0 ≤ forms (nI s9).toNatClampNeg := ⟨hc4, by rw [es]; exact hneg⟩
      refine va_getN (D := G) (host := RX0) (ci := 2) (C := RX2) (T := TX2) (N := 2) hx hb hts in_X2 hown hK hP (54 + s9) (xr_sheet (by omega)) rfl 1 (by decide) (va_Nw.use rfl (hE.nw _ rfl (Or.inl q626))) (fun _ h => h) rfl dX0_lose_16 ?_
      refine r_stk (st' := [.null]) (by rw [hro]; rfl) ?_
      refine lv_ifnonnullN hx hb dX0_lose_19 ?_
      refine lv_aload_n hx hb dX0_lose_22 rfl (lv_at hl 0 rfl) ?_
      refine lv_iconst (v := 1) hx hb dX0_lose_23 (by decide) ?_
      refine va_calli (va_runV (As := [.int 1]) (rest := []) ⟨hx, hb, hml, hown, hts⟩ (mx_refuses l G t A a cs K many settings isVoted lotsNow seen keyOne keyTwo votes looked matched without trio takenStar takenAs takenSpot pairs starArms spotArms isTurn places byStar byFar one usedNow laidMany finding dir (1 : Int32)) (cwV 1 hts (lw_V q183 q185 qs3 q80 q186) rfl rfl rfl cd_X0_refuses ⟨Nat.le_of_ble_eq_true rfl, Nat.le_of_ble_eq_true rfl⟩) ⟨xPr_fb, x_recv hP hK, fun U hU hW => ⟨rfl, xPr_of hP hK hD hS hA hE hU hW⟩⟩ rfl rfl hl.1 rfl (lv_room (Nat.le_of_ble_eq_true rfl)) dX0_lose_24 ⟨Nat.le_of_ble_eq_true rfl, Nat.le_of_ble_eq_true rfl⟩) hS (fun _ _ h => h) (fun _ h => h) (fun r u tt H locs ht _ hq hP _ hkp hS => ?_)
      obtain ⟨rfl, rfl⟩ := hq
      have hP : va_P G vwCl (Xx t a K many settings isVoted lotsNow seen keyOne keyTwo votes looked matched without trio takenStar takenAs takenSpot pairs starArms spotArms isTurn places byStar byFar one usedNow laidMany (1 : Int32)) H := by rw [← ht]; exact hP
      have hP : va_P G vwCl (Xx t a K many settings isVoted lotsNow seen keyOne keyTwo votes looked matched without trio takenStar takenAs takenSpot pairs starArms spotArms isTurn places byStar byFar one usedNow laidMany (if rng (nI s9) 0 3 ∧ ¬ 0 ≤ forms (nI s9).toNatClampNeg then 1 else finding)) H := by (rw [if_pos hfi]; exact hP)
      exact W.iret (v := (-10) - (1 : Int32)) hx hb hr (fun tt ht _ => ⟨⟨_, ((if rng (nI s9) 0 3 ∧ ¬ 0 ≤ forms (nI s9).toNatClampNeg then 1 else finding), K), rfl, ⟨(by rw [if_pos hc4, es, if_neg hneg]; decide), rfl, (by rw [if_neg hnp]; exact ⟨Lays.rf K, hSh⟩)⟩, (show va_P G vwCl ((fun (uv : (Int32) × XK) => Xx t a uv.2 many settings isVoted lotsNow seen keyOne keyTwo votes looked matched without trio takenStar takenAs takenSpot pairs starArms spotArms isTurn places byStar byFar one usedNow laidMany uv.1) ((if rng (nI s9) 0 3 ∧ ¬ 0 ≤ forms (nI s9).toNatClampNeg then 1 else finding), K)) tt.heap from by rw [ht]; exact hP)⟩, hS.F ht⟩) hS.2.2 dX0_lose_27 hlk
    · have hpos : (0 : Int32) ≤ forms s9 := by rw [hf9]; exact nI_pos' (by omega)
      have hrd : rng (nI s9) 0 3 ∧ 0 ≤ forms (nI s9).toNatClampNeg := ⟨hc4, by rw [es]; exact hpos⟩
      have hnf : ¬ (rng (nI s9) 0 3 ∧ ¬ 0 ≤ forms (nI s9).toNatClampNeg) := fun q9 => q9.2 (by rw [es]; exact hpos)
      refine va_getN (D := G) (host := RX0) (ci := 2) (C := RX2) (T := TX2) (N := 2) hx hb hts in_X2 hown hK hP (54 + s9) (xr_sheet (by omega)) rfl 1 (by decide) (va_Nw.use rfl (hE.nw _ rfl (Or.inl q626))) (fun _ h => h) rfl dX0_lose_16 ?_
      refine r_stk (st' := [.ref q]) (by rw [hro]; rfl) ?_
      refine lv_ifnonnull (tgt := 28) hx hb dX0_lose_19 (by decide) ?_
      refine lv_aload_n hx hb dX0_lose_28 rfl (lv_at hl 0 rfl) ?_
      refine va_get (D := G) (ci := 0) (C := RX0) (T := TX0) (N := 32) hx hb hts in_X0 hown hK hP 0 xk_this rfl 30 (by decide) (hts _ q663) (fun _ h => h) rfl dX0_lose_29 ?_
      refine lv_iload_n hx hb dX0_lose_32 rfl (lv_at hl 1 rfl) ?_
      refine xq_aald (r := .ref (a (54 + s9))) hx hb hK hP 53 9 xk_sheets rfl rfl s9 rfl (by omega) (by decide) rfl dX0_lose_33 ?_
      refine vp_callSi (W.runV (As := []) (rest := []) ⟨hx, hb, hml, hown, hts⟩ (mx_size l G t A a cs K many settings isVoted lotsNow seen keyOne keyTwo votes looked matched without trio takenStar takenAs takenSpot pairs starArms spotArms isTurn places byStar byFar one usedNow laidMany finding dir s9 q fm n9 g hs9 hfo hro hfm hn9 mq fq) (cwV 0 hts (lw_V q187 q188 q189 q82 q190) rfl rfl rfl cd_X2_size ⟨Nat.le_of_ble_eq_true rfl, Nat.le_of_ble_eq_true rfl⟩) ⟨xPr_fb, va_recv hK hP (ci := 2) (q0 := 54 + s9) (q := (RX2, TX2, 2)) rfl (xr_sheet (by omega)), fun U hU hW => ⟨rfl, xPr_of hP hK hD hS hA hE hU hW⟩⟩ rfl rfl hl.1 rfl (lv_room (Nat.le_of_ble_eq_true rfl)) dX0_lose_34 ⟨Nat.le_of_ble_eq_true rfl, Nat.le_of_ble_eq_true rfl⟩) (fun r hr => ?_)
      subst hr
      refine lv_istore_n (lv' := [(2, .int (nI n9)), (0, .ref (a 0)), (1, .int (nI s9))]) hx hb dX0_lose_37 rfl hl (by decide) rfl (fun ls hl => ?_)
      refine lv_aload_n hx hb dX0_lose_38 rfl (lv_at hl 1 rfl) ?_
      refine va_get (D := G) (ci := 0) (C := RX0) (T := TX0) (N := 32) hx hb hts in_X0 hown hK hP 0 xk_this rfl 30 (by decide) (hts _ q663) (fun _ h => h) rfl dX0_lose_39 ?_
      refine lv_iload_n hx hb dX0_lose_42 rfl (lv_at hl 2 rfl) ?_
      refine xq_aald (r := .ref (a (54 + s9))) hx hb hK hP 53 9 xk_sheets rfl rfl s9 rfl (by omega) (by decide) rfl dX0_lose_43 ?_
      refine lv_null hx hb dX0_lose_44 ?_
      refine va_putN (D := G) (host := RX0) (ci := 2) (v := .null) (ty := .object "java/lang/Object") (C := RX2) (T := TX2) (N := 2) hx hb hts in_X2 tyX2 tyX2_ok nmX2 hown hK hP (xD hD) hS (54 + s9) (xr_sheet (by omega)) rfl 1 (by decide) (va_Nw.use rfl (hE.nw _ rfl (Or.inl q626))) (fun _ h => h) rfl (by decide +kernel) rfl rfl (Nat.le_of_ble_eq_true rfl) dX0_lose_45 (fun H locs hP _ hS => ?_)
      have hP : va_P G vwCl (Xx t a (XK.row K s9 none) many settings isVoted lotsNow seen keyOne keyTwo votes looked matched without trio takenStar takenAs takenSpot pairs starArms spotArms isTurn places byStar byFar one usedNow laidMany finding) H := by rw [← xs_row (by omega) none]; exact hP
      have hD : XD A a (XK.row K s9 none).L := hD
      refine lv_iload_n hx hb dX0_lose_48 rfl (lv_at hl 0 rfl) ?_
      have hP : va_P G vwCl (Xx t a (XK.row K s9 none) many settings isVoted lotsNow seen keyOne keyTwo votes looked matched without trio takenStar takenAs takenSpot pairs starArms spotArms isTurn places byStar byFar one usedNow laidMany (if rng (nI s9) 0 3 ∧ ¬ 0 ≤ forms (nI s9).toNatClampNeg then 1 else finding)) H := by (rw [if_neg hnf]; exact hP)
      exact W.iret (v := nI n9) hx hb hr (fun tt ht _ => ⟨⟨_, ((if rng (nI s9) 0 3 ∧ ¬ 0 ≤ forms (nI s9).toNatClampNeg then 1 else finding), (XK.row K s9 none)), rfl, ⟨(by rw [if_pos hc4, es, if_pos hpos, hz9]), rfl, (by rw [if_pos hrd, es]; exact ⟨Lays.row _ _ _, sht_lose hSh⟩)⟩, (show va_P G vwCl ((fun (uv : (Int32) × XK) => Xx t a uv.2 many settings isVoted lotsNow seen keyOne keyTwo votes looked matched without trio takenStar takenAs takenSpot pairs starArms spotArms isTurn places byStar byFar one usedNow laidMany uv.1) ((if rng (nI s9) 0 3 ∧ ¬ 0 ≤ forms (nI s9).toNatClampNeg then 1 else finding), (XK.row K s9 none))) tt.heap from by rw [ht]; exact hP)⟩, hS.F ht⟩) hS.2.2 dX0_lose_49 hlk
  · have hnp : ¬ (rng si 0 3 ∧ 0 ≤ forms si.toNatClampNeg) := fun q9 => c_1 q9.1
    have hnf : ¬ (rng si 0 3 ∧ ¬ 0 ≤ forms si.toNatClampNeg) := fun q9 => c_1 q9.1
    refine lv_bipush (v := (-2)) hx hb dX0_lose_7 (by decide) ?_
    have hP : va_P G vwCl (Xx t a K many settings isVoted lotsNow seen keyOne keyTwo votes looked matched without trio takenStar takenAs takenSpot pairs starArms spotArms isTurn places byStar byFar one usedNow laidMany (if rng si 0 3 ∧ ¬ 0 ≤ forms si.toNatClampNeg then 1 else finding)) s.heap := by (rw [if_neg hnf]; exact hP)
    exact W.iret (v := (-2)) hx hb hr (fun tt ht _ => ⟨⟨_, ((if rng si 0 3 ∧ ¬ 0 ≤ forms si.toNatClampNeg then 1 else finding), K), rfl, ⟨(by rw [if_neg c_1]), rfl, (by rw [if_neg hnp]; exact ⟨Lays.rf K, hSh⟩)⟩, (show va_P G vwCl ((fun (uv : (Int32) × XK) => Xx t a uv.2 many settings isVoted lotsNow seen keyOne keyTwo votes looked matched without trio takenStar takenAs takenSpot pairs starArms spotArms isTurn places byStar byFar one usedNow laidMany uv.1) ((if rng si 0 3 ∧ ¬ 0 ≤ forms si.toNatClampNeg then 1 else finding), K)) tt.heap from by rw [ht]; exact hP)⟩, hS.F ht⟩) hS.2.2 dX0_lose_9 hlk
