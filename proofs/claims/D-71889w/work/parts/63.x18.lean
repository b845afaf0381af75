/-! the tracker: read -/
set_option maxHeartbeats 4000000 in
theorem lx_read {p : Program} {l : Launch} {e : Env} {s : State} {m : MethodId} {args : Array Value} {below : List Frame} {meth : Method} {c : Code} {Q : State → Prop} {H0 : Heap} (G : va_G) (t : Nat → ClassId) (A : Nat → Prop) (a : Nat → Nat) (cs : Nat → ClassId) (settings : (Nat → Int32)) (lotsNow : Int32) (seen : (Nat → Int32)) (keyOne : (Nat → Int32)) (keyTwo : (Nat → Int32)) (votes : (Nat → Int32)) (looked : Int32) (matched : Int32) (without : Int32) (trio : (Nat → Int32)) (takenStar : (Nat → Int32)) (takenAs : (Nat → Int32)) (takenSpot : (Nat → Int32)) (pairs : Int32) (starArms : (Nat → Int64)) (spotArms : (Nat → Int64)) (isTurn : Int32) (places : (Nat → Int32)) (byStar : (Nat → Int32)) (byFar : (Nat → Int32)) (one : (Nat → Int64)) (usedNow : (Nat → Int32)) (laidMany : (Nat → Int32)) (finding : Int32) (K0 : XK) (s9 fm n9 k q v9z : Nat) (g : Nat → Int32) (items : Nat → Int32) (v9 : Int32) (d9 m9 : Nat → Int32) (hk : k < 2) (hs9 : s9 < 4) (hfo0 : K0.fo s9 = nI fm) (hro0 : K0.ro s9 = some q) (hfm : fm < 3) (hn9 : n9 ≤ 60) (mq0 : q ∈ K0.L) (fq0 : K0.f q = .inl (t (sT fm), n9, .inl g)) (hgi : ∀ i, i < n9 → g i = items (60 * s9 + i)) (hx : p.tables.exec = Jvm.exec) (hb : c.code = cX0_read) (hml : c.maxLocals = 5) (hown : s.vm.findClass RX0 = some m.cls) (hts : ∀ w ∈ lw_all, w.before args s = true) (hK : va_K G vwCl (Tys t) s) (hA : ∀ q, H0.size ≤ q → A q) (hE : xE A a cs s H0) : ∀ (f n : Nat), n9 ≤ 3 * (n + f) → n ≤ 20 → ∀ (K : XK) (isVoted : Int32) (dir many : Nat → Int32) (hR : (GrX A a K0 K dir many ∧ (¬ isVoted = 0 → isVoted = v9 ∧ dir = d9 ∧ many = m9))) (hM : Mok many) (H : Heap) (locs : List Loc) (ls : Array Slot), va_P G vwCl (Xx t a K many settings isVoted lotsNow seen keyOne keyTwo votes looked matched without trio takenStar takenAs takenSpot pairs starArms spotArms isTurn places byStar byFar one usedNow laidMany finding) H → va_S A H0 H locs → lv_has ls 5 [(0, .ref (a 0)), (1, .int (nI k)), (3, .ref (a (54 + s9))), (4, .int (nI n))] → (∀ (K : XK) (isVoted : Int32) (hR : (GrX A a K0 K (readX k n9 (fun i => items (60 * s9 + i)) f n (dir, many)).2.1 (readX k n9 (fun i => items (60 * s9 + i)) f n (dir, many)).2.2 ∧ (¬ isVoted = 0 → isVoted = v9 ∧ (readX k n9 (fun i => items (60 * s9 + i)) f n (dir, many)).2.1 = d9 ∧ (readX k n9 (fun i => items (60 * s9 + i)) f n (dir, many)).2.2 = m9))) (H : Heap) (locs : List Loc) (ls : Array Slot) (cc ss : Nat), cc ≤ 21 → ss ≤ 63 → va_P G vwCl (Xx t a K ((readX k n9 (fun i => items (60 * s9 + i)) f n (dir, many)).2.2) settings isVoted lotsNow seen keyOne keyTwo votes looked matched without trio takenStar takenAs takenSpot pairs starArms spotArms isTurn places byStar byFar one usedNow laidMany finding) H → va_S A H0 H locs → lv_has ls 5 [(0, .ref (a 0)), (1, .int (nI k)), (3, .ref (a (54 + s9))), (4, .int (nI ((readX k n9 (fun i => items (60 * s9 + i)) f n (dir, many)).1)))] → W p l e (rm_ 0 5 21 63) s m args below meth c H locs cc ss Q (F0 m 95 ls [])) → W p l e (rm_ 0 5 21 63) s m args below meth c H locs n (3 * n) Q (F0 m 40 ls []) := by
  intro f
  induction f with
  | zero =>
    intro n hlo hn20 K isVoted dir many hR hM H locs ls hP hS hl hex
    have hD : XD A a K.L := hR.1.1
    have hgw := hR.1.2.1
    have hB := hR.1.2.2
    have hfo : K.fo s9 = nI fm := by rw [hgw.2.1]; exact hfo0
    have hro : K.ro s9 = some q := by rw [hgw.2.2.1]; exact hro0
    have mq := (hgw.2.2.2 q mq0).1
    have fq := (hgw.2.2.2 q mq0).2.trans fq0
    have hz : ¬ 3 * n + 3 ≤ n9 := by omega
    refine lv_iconst (v := 3) hx hb dX0_read_40 (by decide) ?_
    refine lv_iload hx hb dX0_read_41 (lv_at hl 3 rfl) ?_
    refine lv_imul hx hb dX0_read_43 ?_
    refine lv_iconst (v := 2) hx hb dX0_read_44 (by decide) ?_
    refine lv_iadd hx hb dX0_read_45 ?_
    refine lv_aload_n hx hb dX0_read_46 rfl (lv_at hl 2 rfl) ?_
    refine vp_callSi (W.runV (As := []) (rest := [.int ((3 * nI n) + 2)]) ⟨hx, hb, hml, hown, hts⟩ (mx_size l G t A a cs K many settings isVoted lotsNow seen keyOne keyTwo votes looked matched without trio takenStar takenAs takenSpot pairs starArms spotArms isTurn places byStar byFar one usedNow laidMany finding dir s9 q fm n9 g hs9 hfo hro hfm hn9 mq fq) (cwV 0 hts (lw_V q187 q188 q189 q82 q190) rfl rfl rfl cd_X2_size ⟨Nat.le_of_ble_eq_true rfl, Nat.le_of_ble_eq_true rfl⟩) ⟨xPr_fb, va_recv hK hP (ci := 2) (q0 := 54 + s9) (q := (RX2, TX2, 2)) rfl (xr_sheet hs9), fun U hU hW => ⟨rfl, xPr_of hP hK hD hS hA hE hU hW⟩⟩ rfl rfl hl.1 rfl (lv_room (Nat.le_of_ble_eq_true rfl)) dX0_read_47 ⟨(by show _ ≤ 21; omega), (by show _ ≤ 63; omega)⟩) (fun r hr => ?_)
    subst hr
    refine rn_ge (tgt := 95) hx hb dX0_read_50 (by decide) (ix_add (ix_mul (nI_q 3) rfl) (nI_q 2)) rfl (by omega) (by omega) (fun c_1 => ?_) (fun c_1 => absurd c_1 (by omega))
    have e9 : (readX k n9 (fun i => items (60 * s9 + i)) 0 n (dir, many)) = (n, (dir, many)) := readX_o hz
    rw [e9] at hex
    exact hex K isVoted hR H locs _ n (3 * n) (by omega) (by omega) hP hS (lv_sub hl [0, 1, 2, 3] rfl)
  | succ f ih =>
    intro n hlo hn20 K isVoted dir many hR hM H locs ls hP hS hl hex
    have hD : XD A a K.L := hR.1.1
    have hgw := hR.1.2.1
    have hB := hR.1.2.2
    have hfo : K.fo s9 = nI fm := by rw [hgw.2.1]; exact hfo0
    have hro : K.ro s9 = some q := by rw [hgw.2.2.1]; exact hro0
    have mq := (hgw.2.2.2 q mq0).1
    have fq := (hgw.2.2.2 q mq0).2.trans fq0
    refine lv_iconst (v := 3) hx hb dX0_read_40 (by decide) ?_
    refine lv_iload hx hb dX0_read_41 (lv_at hl 3 rfl) ?_
    refine lv_imul hx hb dX0_read_43 ?_
    refine lv_iconst (v := 2) hx hb dX0_read_44 (by decide) ?_
    refine lv_iadd hx hb dX0_read_45 ?_
    refine lv_aload_n hx hb dX0_read_46 rfl (lv_at hl 2 rfl) ?_
    refine vp_callSi (W.runV (As := []) (rest := [.int ((3 * nI n) + 2)]) ⟨hx, hb, hml, hown, hts⟩ (mx_size l G t A a cs K many settings isVoted lotsNow seen keyOne keyTwo votes looked matched without trio takenStar takenAs takenSpot pairs starArms spotArms isTurn places byStar byFar one usedNow laidMany finding dir s9 q fm n9 g hs9 hfo hro hfm hn9 mq fq) (cwV 0 hts (lw_V q187 q188 q189 q82 q190) rfl rfl rfl cd_X2_size ⟨Nat.le_of_ble_eq_true rfl, Nat.le_of_ble_eq_true rfl⟩) ⟨xPr_fb, va_recv hK hP (ci := 2) (q0 := 54 + s9) (q := (RX2, TX2, 2)) rfl (xr_sheet hs9), fun U hU hW => ⟨rfl, xPr_of hP hK hD hS hA hE hU hW⟩⟩ rfl rfl hl.1 rfl (lv_room (Nat.le_of_ble_eq_true rfl)) dX0_read_47 ⟨(by show _ ≤ 21; omega), (by show _ ≤ 63; omega)⟩) (fun r hr => ?_)
    subst hr
    refine rn_ge (tgt := 95) hx hb dX0_read_50 (by decide) (ix_add (ix_mul (nI_q 3) rfl) (nI_q 2)) rfl (by omega) (by omega) (fun c_1 => ?_) (fun c_1 => ?_)
    · have hz : ¬ 3 * n + 3 ≤ n9 := by omega
      have e9 : (readX k n9 (fun i => items (60 * s9 + i)) (f + 1) n (dir, many)) = (n, (dir, many)) := readX_o hz
      rw [e9] at hex
      exact hex K isVoted hR H locs _ n (3 * n) (by omega) (by omega) hP hS (lv_sub hl [0, 1, 2, 3] rfl)
    · have hz : 3 * n + 3 ≤ n9 := by omega
      refine lv_aload_n hx hb dX0_read_53 rfl (lv_at hl 0 rfl) ?_
      refine lv_iload_n hx hb dX0_read_54 rfl (lv_at hl 1 rfl) ?_
      refine lv_aload_n hx hb dX0_read_55 rfl (lv_at hl 2 rfl) ?_
      refine lv_iconst (v := 3) hx hb dX0_read_56 (by decide) ?_
      refine lv_iload hx hb dX0_read_57 (lv_at hl 3 rfl) ?_
      refine lv_imul hx hb dX0_read_59 ?_
      refine r_stk (st' := [.int (nI (3 * n)), .ref (a (54 + s9)), .int (nI k), .ref (a 0)]) (lc_i (ix_mul (nI_q 3) rfl) rfl) ?_
      refine vp_callSi (W.runV (As := [.int (nI (3 * n))]) (rest := [.int (nI k), .ref (a 0)]) ⟨hx, hb, hml, hown, hts⟩ (mx_item l G t A a cs K many settings isVoted lotsNow seen keyOne keyTwo votes looked matched without trio takenStar takenAs takenSpot pairs starArms spotArms isTurn places byStar byFar one usedNow laidMany finding dir s9 q fm n9 g (3 * n) hs9 hfo hro hfm hn9 mq fq (by omega)) (cwV 1 hts (lw_V q194 q195 q196 q82 q197) rfl rfl rfl cd_X2_item ⟨Nat.le_of_ble_eq_true rfl, Nat.le_of_ble_eq_true rfl⟩) ⟨xPr_fb, va_recv hK hP (ci := 2) (q0 := 54 + s9) (q := (RX2, TX2, 2)) rfl (xr_sheet hs9), fun U hU hW => ⟨rfl, xPr_of hP hK hD hS hA hE hU hW⟩⟩ rfl rfl hl.1 rfl (lv_room (Nat.le_of_ble_eq_true rfl)) dX0_read_60 ⟨(by show _ ≤ 21; omega), (by show _ ≤ 63; omega)⟩) (fun r hr => ?_)
      subst hr
      refine r_top (y := ((fun i => items (60 * s9 + i)) (3 * n))) (hgi _ (by omega)) ?_
      refine lv_aload_n hx hb dX0_read_63 rfl (lv_at hl 2 rfl) ?_
      refine lv_iconst (v := 3) hx hb dX0_read_64 (by decide) ?_
      refine lv_iload hx hb dX0_read_65 (lv_at hl 3 rfl) ?_
      refine lv_imul hx hb dX0_read_67 ?_
      refine lv_iconst (v := 1) hx hb dX0_read_68 (by decide) ?_
      refine lv_iadd hx hb dX0_read_69 ?_
      refine r_stk (st' := [.int (nI ((3 * n) + 1)), .ref (a (54 + s9)), .int ((fun i => items (60 * s9 + i)) (3 * n)), .int (nI k), .ref (a 0)]) (lc_i (ix_add (ix_mul (nI_q 3) rfl) (nI_q 1)) rfl) ?_
      refine vp_callSi (W.runV (As := [.int (nI ((3 * n) + 1))]) (rest := [.int ((fun i => items (60 * s9 + i)) (3 * n)), .int (nI k), .ref (a 0)]) ⟨hx, hb, hml, hown, hts⟩ (mx_item l G t A a cs K many settings isVoted lotsNow seen keyOne keyTwo votes looked matched without trio takenStar takenAs takenSpot pairs starArms spotArms isTurn places byStar byFar one usedNow laidMany finding dir s9 q fm n9 g ((3 * n) + 1) hs9 hfo hro hfm hn9 mq fq (by omega)) (cwV 1 hts (lw_V q194 q195 q196 q82 q197) rfl rfl rfl cd_X2_item ⟨Nat.le_of_ble_eq_true rfl, Nat.le_of_ble_eq_true rfl⟩) ⟨xPr_fb, va_recv hK hP (ci := 2) (q0 := 54 + s9) (q := (RX2, TX2, 2)) rfl (xr_sheet hs9), fun U hU hW => ⟨rfl, xPr_of hP hK hD hS hA hE hU hW⟩⟩ rfl rfl hl.1 rfl (lv_room (Nat.le_of_ble_eq_true rfl)) dX0_read_70 ⟨(by show _ ≤ 21; omega), (by show _ ≤ 63; omega)⟩) (fun r hr => ?_)
      subst hr
      refine r_top (y := ((fun i => items (60 * s9 + i)) ((3 * n) + 1))) (hgi _ (by omega)) ?_
      refine lv_aload_n hx hb dX0_read_73 rfl (lv_at hl 2 rfl) ?_
      refine lv_iconst (v := 3) hx hb dX0_read_74 (by decide) ?_
      refine lv_iload hx hb dX0_read_75 (lv_at hl 3 rfl) ?_
      refine lv_imul hx hb dX0_read_77 ?_
      refine lv_iconst (v := 2) hx hb dX0_read_78 (by decide) ?_
      refine lv_iadd hx hb dX0_read_79 ?_
      refine r_stk (st' := [.int (nI ((3 * n) + 2)), .ref (a (54 + s9)), .int ((fun i => items (60 * s9 + i)) ((3 * n) + 1)), .int ((fun i => items (60 * s9 + i)) (3 * n)), .int (nI k), .ref (a 0)]) (lc_i (ix_add (ix_mul (nI_q 3) rfl) (nI_q 2)) rfl) ?_
      refine vp_callSi (W.runV (As := [.int (nI ((3 * n) + 2))]) (rest := [.int ((fun i => items (60 * s9 + i)) ((3 * n) + 1)), .int ((fun i => items (60 * s9 + i)) (3 * n)), .int (nI k), .ref (a 0)]) ⟨hx, hb, hml, hown, hts⟩ (mx_item l G t A a cs K many settings isVoted lotsNow seen keyOne keyTwo votes looked matched without trio takenStar takenAs takenSpot pairs starArms spotArms isTurn places byStar byFar one usedNow laidMany finding dir s9 q fm n9 g ((3 * n) + 2) hs9 hfo hro hfm hn9 mq fq (by omega)) (cwV 1 hts (lw_V q194 q195 q196 q82 q197) rfl rfl rfl cd_X2_item ⟨Nat.le_of_ble_eq_true rfl, Nat.le_of_ble_eq_true rfl⟩) ⟨xPr_fb, va_recv hK hP (ci := 2) (q0 := 54 + s9) (q := (RX2, TX2, 2)) rfl (xr_sheet hs9), fun U hU hW => ⟨rfl, xPr_of hP hK hD hS hA hE hU hW⟩⟩ rfl rfl hl.1 rfl (lv_room (Nat.le_of_ble_eq_true rfl)) dX0_read_80 ⟨(by show _ ≤ 21; omega), (by show _ ≤ 63; omega)⟩) (fun r hr => ?_)
      subst hr
      refine r_top (y := ((fun i => items (60 * s9 + i)) ((3 * n) + 2))) (hgi _ (by omega)) ?_
      refine va_calli (va_runV (As := [.int (nI k), .int ((fun i => items (60 * s9 + i)) (3 * n)), .int ((fun i => items (60 * s9 + i)) ((3 * n) + 1)), .int ((fun i => items (60 * s9 + i)) ((3 * n) + 2))]) (rest := []) ⟨hx, hb, hml, hown, hts⟩ (mx_adds l G t A a cs K many settings isVoted lotsNow seen keyOne keyTwo votes looked matched without trio takenStar takenAs takenSpot pairs starArms spotArms isTurn places byStar byFar one usedNow laidMany finding dir k ((fun i => items (60 * s9 + i)) (3 * n)) ((fun i => items (60 * s9 + i)) ((3 * n) + 1)) ((fun i => items (60 * s9 + i)) ((3 * n) + 2)) hM hB hk) (cwV 4 hts (lw_V q111 q113 qs0 q80 q115) rfl rfl rfl cd_X0_adds ⟨Nat.le_of_ble_eq_true rfl, Nat.le_of_ble_eq_true rfl⟩) ⟨xPr_fb, x_recv hP hK, fun U hU hW => ⟨rfl, xPr_of hP hK hD hS hA hE hU hW⟩⟩ rfl rfl hl.1 rfl (lv_room (Nat.le_of_ble_eq_true rfl)) dX0_read_83 ⟨(by show _ ≤ 21; omega), (by show _ ≤ 63; omega)⟩) hS (fun _ _ h => h) (fun _ h => h) (fun r u tt H locs ht _ hq hP _ hkp hS => ?_)
      obtain ⟨u_2, K_u_2⟩ := u
      obtain ⟨rfl, rfl, hR_3⟩ := hq
      have hP : va_P G vwCl (Xx t a K_u_2 (adM many k ((fun i => items (60 * s9 + i)) (3 * n)) ((fun i => items (60 * s9 + i)) ((3 * n) + 1)) ((fun i => items (60 * s9 + i)) ((3 * n) + 2))) settings (adV isVoted many k ((fun i => items (60 * s9 + i)) (3 * n)) ((fun i => items (60 * s9 + i)) ((3 * n) + 1)) ((fun i => items (60 * s9 + i)) ((3 * n) + 2))) lotsNow seen keyOne keyTwo votes looked matched without trio takenStar takenAs takenSpot pairs starArms spotArms isTurn places byStar byFar one usedNow laidMany finding) H := by rw [← ht]; exact hP
      by_cases hp : adP many k ((fun i => items (60 * s9 + i)) (3 * n)) ((fun i => items (60 * s9 + i)) (3 * n + 1)) ((fun i => items (60 * s9 + i)) (3 * n + 2))
      · refine lv_if_le (tgt := 95) hx hb dX0_read_86 (by decide) (fun c_4 => ((adR_pos hM hk hp) c_4).elim) (fun c_4 => ?_)
        refine lv_iinc (v := nI (n + 1)) (lv' := [(4, .int (nI (n + 1))), (0, .ref (a 0)), (1, .int (nI k)), (3, .ref (a (54 + s9)))]) hx hb dX0_read_89 hl (k := 3) rfl (iinc_nI rfl) (by decide) rfl (fun ls hl => ?_)
        refine lv_goto (tgt := 40) hx hb dX0_read_92 (by decide) ?_
        have e9 : (readX k n9 (fun i => items (60 * s9 + i)) (f + 1) n (dir, many)) = (readX k n9 (fun i => items (60 * s9 + i)) f (n + 1) (adD dir many k ((fun i => items (60 * s9 + i)) (3 * n)) ((fun i => items (60 * s9 + i)) (3 * n + 1)) ((fun i => items (60 * s9 + i)) (3 * n + 2)), adM many k ((fun i => items (60 * s9 + i)) (3 * n)) ((fun i => items (60 * s9 + i)) (3 * n + 1)) ((fun i => items (60 * s9 + i)) (3 * n + 2)))) := by rw [readX_s, if_pos hz, if_pos hp]
        rw [e9] at hex
        have eV : adV isVoted many k ((fun i => items (60 * s9 + i)) (3 * n)) ((fun i => items (60 * s9 + i)) (3 * n + 1)) ((fun i => items (60 * s9 + i)) (3 * n + 2)) = 0 := if_pos hp
        exact ih (n + 1) (by omega) (by omega) _ _ _ _ ⟨⟨hR_3.1, hgw.trans hR_3.2.1, hR_3.2.2⟩, fun q9 => absurd eV q9⟩ (adM_ok hM hk) _ _ _ hP hS (lv_sub hl [1, 2, 3, 0] rfl) hex
      · refine lv_if_le (tgt := 95) hx hb dX0_read_86 (by decide) (fun c_5 => ?_) (fun c_5 => (c_5 (adR_neg hp)).elim)
        have e9 : (readX k n9 (fun i => items (60 * s9 + i)) (f + 1) n (dir, many)) = (n, (dir, many)) := by rw [readX_s, if_pos hz, if_neg hp]
        rw [e9] at hex
        have eM : adM many k ((fun i => items (60 * s9 + i)) (3 * n)) ((fun i => items (60 * s9 + i)) (3 * n + 1)) ((fun i => items (60 * s9 + i)) (3 * n + 2)) = many := if_neg hp
        have eD : adD dir many k ((fun i => items (60 * s9 + i)) (3 * n)) ((fun i => items (60 * s9 + i)) (3 * n + 1)) ((fun i => items (60 * s9 + i)) (3 * n + 2)) = dir := if_neg hp
        have eV : adV isVoted many k ((fun i => items (60 * s9 + i)) (3 * n)) ((fun i => items (60 * s9 + i)) (3 * n + 1)) ((fun i => items (60 * s9 + i)) (3 * n + 2)) = isVoted := if_neg hp
        rw [eM, eD] at hR_3
        have hP : va_P G vwCl (Xx t a K_u_2 many settings isVoted lotsNow seen keyOne keyTwo votes looked matched without trio takenStar takenAs takenSpot pairs starArms spotArms isTurn places byStar byFar one usedNow laidMany finding) H := by rw [eM, eV] at hP; exact hP
        exact hex K_u_2 isVoted ⟨⟨hR_3.1, hgw.trans hR_3.2.1, hR_3.2.2⟩, hR.2⟩ H locs _ (n + 1) (3 * n + 3) (by omega) (by omega) hP hS (lv_sub hl [0, 1, 2, 3] rfl)

set_option maxHeartbeats 4000000 in
theorem mx_read (l : Launch) (G : va_G) (t : Nat → ClassId) (A : Nat → Prop) (a : Nat → Nat) (cs : Nat → ClassId) (K : XK) (many : (Nat → Int32)) (settings : (Nat → Int32)) (isVoted : Int32) (lotsNow : Int32) (seen : (Nat → Int32)) (keyOne : (Nat → Int32)) (keyTwo : (Nat → Int32)) (votes : (Nat → Int32)) (looked : Int32) (matched : Int32) (without : Int32) (trio : (Nat → Int32)) (takenStar : (Nat → Int32)) (takenAs : (Nat → Int32)) (takenSpot : (Nat → Int32)) (pairs : Int32) (starArms : (Nat → Int64)) (spotArms : (Nat → Int64)) (isTurn : Int32) (places : (Nat → Int32)) (byStar : (Nat → Int32)) (byFar : (Nat → Int32)) (one : (Nat → Int64)) (usedNow : (Nat → Int32)) (laidMany : (Nat → Int32)) (finding : Int32) (dir : (Nat → Int32)) (kind : Int32) (si : Int32) (forms : Nat → Int32) (sizes : Nat → Int32) (items : Nat → Int32) (hM : Mok many) (hB : BodOk K dir many) (hSh : ShtOk t K forms sizes items) : Met l yX0_read (ws_ yX0_read cX0_read 5 (some .int)) (rm_ 0 5 21 63) (va_Pc [.ref (a 0), .int kind, .int si] (xPr G t A a cs K.L (Xx t a K many settings isVoted lotsNow seen keyOne keyTwo votes looked matched without trio takenStar takenAs takenSpot pairs starArms spotArms isTurn places byStar byFar one usedNow laidMany finding))) (va_Qi (fun rv (uv : ((Nat → Int32) × Int32) × XK × Int32) => rv = (if rng kind 0 1 then (if rng si 0 3 then (if 0 ≤ forms si.toNatClampNeg then nI (readC sizes items si.toNatClampNeg kind.toNatClampNeg dir many).1 else -11) else -2) else -2) ∧ uv.1 = ((if rdP forms kind si then (readC sizes items si.toNatClampNeg kind.toNatClampNeg dir many).2.2 else many), (if rng kind 0 1 ∧ rng si 0 3 ∧ ¬ 0 ≤ forms si.toNatClampNeg then 1 else finding)) ∧ GrX A a K uv.2.1 (if rdP forms kind si then (readC sizes items si.toNatClampNeg kind.toNatClampNeg dir many).2.1 else dir) (if rdP forms kind si then (readC sizes items si.toNatClampNeg kind.toNatClampNeg dir many).2.2 else many) ∧ (¬ uv.2.2 = 0 → uv.2.2 = isVoted ∧ (if rdP forms kind si then (readC sizes items si.toNatClampNeg kind.toNatClampNeg dir many).2.1 else dir) = dir ∧ (if rdP forms kind si then (readC sizes items si.toNatClampNeg kind.toNatClampNeg dir many).2.2 else many) = many)) (mB G (fun (uv : ((Nat → Int32) × Int32) × XK × Int32) => Xx t a uv.2.1 uv.1.1 settings uv.2.2 lotsNow seen keyOne keyTwo votes looked matched without trio takenStar takenAs takenSpot pairs starArms spotArms isTurn places byStar byFar one usedNow laidMany uv.1.2)) A) 21 63 A := by
  refine mkx_W (by decide) (Nat.le_of_ble_eq_true rfl) ?_
  intro p e s m below meth c ls hx hb hml hr hlk hts hown hnm hv hl
  obtain ⟨hP, hK, hD, hA, hE⟩ := hv
  have hS : va_S A s.heap s.heap [] := va_S.rf
  have hl : lv_has ls 5 [(0, .ref (a 0)), (1, .int kind), (2, .int si)] := hl
  refine lv_iload_n hx hb dX0_read_0 rfl (lv_at hl 1 rfl) ?_
  refine vp_callSi (W.runS (As := [.int kind]) (rest := []) ⟨hx, hb, hml, hown, hts⟩ (mx_isTwo l kind) (va_cwS 1 hts (lw_S q105 q106 q80 q107) rfl rfl rfl cd_X0_isTwo.2 ⟨Nat.le_of_ble_eq_true rfl, Nat.le_of_ble_eq_true rfl⟩) ⟨pT_fb, fun U hU hW => ⟨rfl, trivial⟩⟩ rfl rfl hl.1 rfl (lv_room (Nat.le_of_ble_eq_true rfl)) dX0_read_1 ⟨Nat.le_of_ble_eq_true rfl, Nat.le_of_ble_eq_true rfl⟩) (fun r hr => ?_)
  subst hr
  refine rb_eq (tgt := 14) hx hb dX0_read_4 (by decide) (fun c_1 => ?_) (fun c_1 => ?_)
  · have hnr : ¬ rdP forms kind si := fun q9 => c_1 q9.1
    have hnf : ¬ (rng kind 0 1 ∧ rng si 0 3 ∧ ¬ 0 ≤ forms si.toNatClampNeg) := fun q9 => c_1 q9.1
    refine lv_bipush (v := (-2)) hx hb dX0_read_14 (by decide) ?_
    have hP : va_P G vwCl (Xx t a K (if rdP forms kind si then (readC sizes items si.toNatClampNeg kind.toNatClampNeg dir many).2.2 else many) settings isVoted lotsNow seen keyOne keyTwo votes looked matched without trio takenStar takenAs takenSpot pairs starArms spotArms isTurn places byStar byFar one usedNow laidMany (if rng kind 0 1 ∧ rng si 0 3 ∧ ¬ 0 ≤ forms si.toNatClampNeg then 1 else finding)) s.heap := by (simp only [if_neg hnr, if_neg hnf]; exact hP)
    refine W.widen (k := 21) (n := 63) (Nat.zero_le _) (Nat.zero_le _) ?_
    exact W.iret (v := (-2)) hx hb hr (fun tt ht _ => ⟨⟨_, (((if rdP forms kind si then (readC sizes items si.toNatClampNeg kind.toNatClampNeg dir many).2.2 else many), (if rng kind 0 1 ∧ rng si 0 3 ∧ ¬ 0 ≤ forms si.toNatClampNeg then 1 else finding)), K, isVoted), rfl, ⟨(by rw [if_neg c_1]), rfl, (by simp only [if_neg hnr]; exact ⟨⟨hD, Grw.rf K, hB⟩, fun _ => by simp⟩)⟩, (show va_P G vwCl ((fun (uv : ((Nat → Int32) × Int32) × XK × Int32) => Xx t a uv.2.1 uv.1.1 settings uv.2.2 lotsNow seen keyOne keyTwo votes looked matched without trio takenStar takenAs takenSpot pairs starArms spotArms isTurn places byStar byFar one usedNow laidMany uv.1.2) (((if rdP forms kind si then (readC sizes items si.toNatClampNeg kind.toNatClampNeg dir many).2.2 else many), (if rng kind 0 1 ∧ rng si 0 3 ∧ ¬ 0 ≤ forms si.toNatClampNeg then 1 else finding)), K, isVoted)) tt.heap from by rw [ht]; exact hP)⟩, hS.F ht⟩) hS.2.2 dX0_read_16 hlk
  · refine lv_iload_n hx hb dX0_read_7 rfl (lv_at hl 2 rfl) ?_
    refine vp_callSi (W.runS (As := [.int si]) (rest := []) ⟨hx, hb, hml, hown, hts⟩ (mx_isSheet l si) (va_cwS 1 hts (lw_S q180 q181 q80 q182) rfl rfl rfl cd_X0_isSheet.2 ⟨Nat.le_of_ble_eq_true rfl, Nat.le_of_ble_eq_true rfl⟩) ⟨pT_fb, fun U hU hW => ⟨rfl, trivial⟩⟩ rfl rfl hl.1 rfl (lv_room (Nat.le_of_ble_eq_true rfl)) dX0_read_8 ⟨Nat.le_of_ble_eq_true rfl, Nat.le_of_ble_eq_true rfl⟩) (fun r hr => ?_)
    subst hr
    refine rb_ne (tgt := 17) hx hb dX0_read_11 (by decide) (fun c_2 => ?_) (fun c_2 => ?_)
    · have hc4 := c_1
      have hc11 := c_2
      obtain ⟨k, hk, rfl⟩ := rng_ex (n := 1) c_1
      obtain ⟨s9, hs9, rfl⟩ := rng_ex (n := 3) c_2
      have ek : (nI k).toNatClampNeg = k := tn_nI (by omega)
      have es : (nI s9).toNatClampNeg = s9 := tn_nI (by omega)
      have hk : k < 2 := by omega
      have hs9 : s9 < 4 := by omega
      refine lv_aload_n hx hb dX0_read_17 rfl (lv_at hl 0 rfl) ?_
      refine va_get (D := G) (ci := 0) (C := RX0) (T := TX0) (N := 32) hx hb hts in_X0 hown hK hP 0 xk_this rfl 30 (by decide) (hts _ q663) (fun _ h => h) rfl dX0_read_18 ?_
      refine lv_iload_n hx hb dX0_read_21 rfl (lv_at hl 2 rfl) ?_
      refine xq_aald (r := .ref (a (54 + s9))) hx hb hK hP 53 9 xk_sheets rfl rfl s9 rfl (by omega) (by decide) rfl dX0_read_22 ?_
      refine lv_astore_n (lv' := [(3, .ref (a (54 + s9))), (0, .ref (a 0)), (1, .int (nI k)), (2, .int (nI s9))]) hx hb dX0_read_23 rfl hl (by decide) rfl (fun ls hl => ?_)
      rcases hSh.1 s9 hs9 with ⟨hf9, hro⟩ | ⟨fm, n9, g, hf9, hz9, ⟨hfo, hfm, hn9, q, hro, mq, fq⟩, hgi⟩
      · have hneg : ¬ (0 : Int32) ≤ forms s9 := by rw [hf9]; decide
        have hnr : ¬ rdP forms (nI k) (nI s9) := fun q9 => hneg (by have := q9.2.2; rw [es] at this; exact this)
        have hfi : rng (nI k) 0 1 ∧ rng (nI s9) 0 3 ∧ ¬ 0 ≤ forms (nI s9).toNatClampNeg := ⟨hc4, hc11, by rw [es]; exact hneg⟩
        refine lv_aload_n hx hb dX0_read_24 rfl (lv_at hl 0 rfl) ?_
        refine va_getN (D := G) (host := RX0) (ci := 2) (C := RX2) (T := TX2) (N := 2) hx hb hts in_X2 hown hK hP (54 + s9) (xr_sheet (by omega)) rfl 1 (by decide) (va_Nw.use rfl (hE.nw _ rfl (Or.inl q626))) (fun _ h => h) rfl dX0_read_25 ?_
        refine r_stk (st' := [.null]) (by rw [hro]; rfl) ?_
        refine lv_ifnonnullN hx hb dX0_read_28 ?_
        refine lv_aload_n hx hb dX0_read_31 rfl (lv_at hl 1 rfl) ?_
        refine lv_iconst (v := 1) hx hb dX0_read_32 (by decide) ?_
        refine va_calli (va_runV (As := [.int 1]) (rest := []) ⟨hx, hb, hml, hown, hts⟩ (mx_refuses l G t A a cs K many settings isVoted lotsNow seen keyOne keyTwo votes looked matched without trio takenStar takenAs takenSpot pairs starArms spotArms isTurn places byStar byFar one usedNow laidMany finding dir (1 : Int32)) (cwV 1 hts (lw_V q183 q185 qs3 q80 q186) rfl rfl rfl cd_X0_refuses ⟨Nat.le_of_ble_eq_true rfl, Nat.le_of_ble_eq_true rfl⟩) ⟨xPr_fb, x_recv hP hK, fun U hU hW => ⟨rfl, xPr_of hP hK hD hS hA hE hU hW⟩⟩ rfl rfl hl.1 rfl (lv_room (Nat.le_of_ble_eq_true rfl)) dX0_read_33 ⟨Nat.le_of_ble_eq_true rfl, Nat.le_of_ble_eq_true rfl⟩) hS (fun _ _ h => h) (fun _ h => h) (fun r u tt H locs ht _ hq hP _ hkp hS => ?_)
        obtain ⟨rfl, rfl⟩ := hq
        have hP : va_P G vwCl (Xx t a K many settings isVoted lotsNow seen keyOne keyTwo votes looked matched without trio takenStar takenAs takenSpot pairs starArms spotArms isTurn places byStar byFar one usedNow laidMany (1 : Int32)) H := by rw [← ht]; exact hP
        have hP : va_P G vwCl (Xx t a K (if rdP forms (nI k) (nI s9) then (readC sizes items (nI s9).toNatClampNeg (nI k).toNatClampNeg dir many).2.2 else many) settings isVoted lotsNow seen keyOne keyTwo votes looked matched without trio takenStar takenAs takenSpot pairs starArms spotArms isTurn places byStar byFar one usedNow laidMany (if rng (nI k) 0 1 ∧ rng (nI s9) 0 3 ∧ ¬ 0 ≤ forms (nI s9).toNatClampNeg then 1 else finding)) H := by (simp only [if_neg hnr, if_pos hfi]; exact hP)
        refine W.widen (k := 21) (n := 63) (Nat.zero_le _) (Nat.zero_le _) ?_
        exact W.iret (v := (-10) - (1 : Int32)) hx hb hr (fun tt ht _ => ⟨⟨_, (((if rdP forms (nI k) (nI s9) then (readC sizes items (nI s9).toNatClampNeg (nI k).toNatClampNeg dir many).2.2 else many), (if rng (nI k) 0 1 ∧ rng (nI s9) 0 3 ∧ ¬ 0 ≤ forms (nI s9).toNatClampNeg then 1 else finding)), K, isVoted), rfl, ⟨(by rw [if_pos hc4, if_pos hc11, es, if_neg hneg]; decide), rfl, (by simp only [if_neg hnr]; exact ⟨⟨hD, Grw.rf K, hB⟩, fun _ => by simp⟩)⟩, (show va_P G vwCl ((fun (uv : ((Nat → Int32) × Int32) × XK × Int32) => Xx t a uv.2.1 uv.1.1 settings uv.2.2 lotsNow seen keyOne keyTwo votes looked matched without trio takenStar takenAs takenSpot pairs starArms spotArms isTurn places byStar byFar one usedNow laidMany uv.1.2) (((if rdP forms (nI k) (nI s9) then (readC sizes items (nI s9).toNatClampNeg (nI k).toNatClampNeg dir many).2.2 else many), (if rng (nI k) 0 1 ∧ rng (nI s9) 0 3 ∧ ¬ 0 ≤ forms (nI s9).toNatClampNeg then 1 else finding)), K, isVoted)) tt.heap from by rw [ht]; exact hP)⟩, hS.F ht⟩) hS.2.2 dX0_read_36 hlk
      · have hpos : (0 : Int32) ≤ forms s9 := by rw [hf9]; exact nI_pos' (by omega)
        have hrd : rdP forms (nI k) (nI s9) := ⟨hc4, hc11, by rw [es]; exact hpos⟩
        have hnf : ¬ (rng (nI k) 0 1 ∧ rng (nI s9) 0 3 ∧ ¬ 0 ≤ forms (nI s9).toNatClampNeg) := fun q9 => q9.2.2 (by rw [es]; exact hpos)
        have eC : readC sizes items s9 k dir many = readX k n9 (fun i => items (60 * s9 + i)) 21 0 (dir, many) := by unfold readC; rw [show zK sizes s9 = n9 from by show (sizes s9).toNatClampNeg = n9; rw [hz9, tn_nI (by omega)]]
        refine lv_aload_n hx hb dX0_read_24 rfl (lv_at hl 0 rfl) ?_
        refine va_getN (D := G) (host := RX0) (ci := 2) (C := RX2) (T := TX2) (N := 2) hx hb hts in_X2 hown hK hP (54 + s9) (xr_sheet (by omega)) rfl 1 (by decide) (va_Nw.use rfl (hE.nw _ rfl (Or.inl q626))) (fun _ h => h) rfl dX0_read_25 ?_
        refine r_stk (st' := [.ref q]) (by rw [hro]; rfl) ?_
        refine lv_ifnonnull (tgt := 37) hx hb dX0_read_28 (by decide) ?_
        refine lv_iconst (v := 0) hx hb dX0_read_37 (by decide) ?_
        refine lv_istore (lv' := [(4, .int 0), (3, .ref (a (54 + s9))), (0, .ref (a 0)), (1, .int (nI k)), (2, .int (nI s9))]) hx hb dX0_read_38 hl (by decide) rfl (fun ls hl => ?_)
        refine lx_read G t A a cs settings lotsNow seen keyOne keyTwo votes looked matched without trio takenStar takenAs takenSpot pairs starArms spotArms isTurn places byStar byFar one usedNow laidMany finding K s9 fm n9 k q 0 g items isVoted dir many hk hs9 hfo hro hfm hn9 mq fq hgi hx hb hml hown hts hK hA hE 21 0 (by omega) (by omega) K isVoted dir many ⟨⟨hD, Grw.rf K, hB⟩, fun _ => ⟨rfl, rfl, rfl⟩⟩ hM _ _ _ hP hS (lv_sub hl [2, 3, 1, 0] rfl) (fun K9 iV9 hR9 H locs ls cc ss hcc hss hP hS hl => ?_)
        refine lv_iload hx hb dX0_read_95 (lv_at hl 3 rfl) ?_
        have hP : va_P G vwCl (Xx t a K9 (if rdP forms (nI k) (nI s9) then (readC sizes items (nI s9).toNatClampNeg (nI k).toNatClampNeg dir many).2.2 else many) settings iV9 lotsNow seen keyOne keyTwo votes looked matched without trio takenStar takenAs takenSpot pairs starArms spotArms isTurn places byStar byFar one usedNow laidMany (if rng (nI k) 0 1 ∧ rng (nI s9) 0 3 ∧ ¬ 0 ≤ forms (nI s9).toNatClampNeg then 1 else finding)) H := by (rw [if_pos hrd, if_neg hnf, ek, es, eC]; exact hP)
        refine W.widen (k := 21) (n := 63) hcc hss ?_
        exact W.iret (v := nI ((readX k n9 (fun i => items (60 * s9 + i)) 21 0 (dir, many)).1)) hx hb hr (fun tt ht _ => ⟨⟨_, (((if rdP forms (nI k) (nI s9) then (readC sizes items (nI s9).toNatClampNeg (nI k).toNatClampNeg dir many).2.2 else many), (if rng (nI k) 0 1 ∧ rng (nI s9) 0 3 ∧ ¬ 0 ≤ forms (nI s9).toNatClampNeg then 1 else finding)), K9, iV9), rfl, ⟨(by rw [if_pos hc4, if_pos hc11, es, ek, if_pos hpos, eC]), rfl, (by simp only [if_pos hrd, ek, es]; rw [eC]; exact hR9)⟩, (show va_P G vwCl ((fun (uv : ((Nat → Int32) × Int32) × XK × Int32) => Xx t a uv.2.1 uv.1.1 settings uv.2.2 lotsNow seen keyOne keyTwo votes looked matched without trio takenStar takenAs takenSpot pairs starArms spotArms isTurn places byStar byFar one usedNow laidMany uv.1.2) (((if rdP forms (nI k) (nI s9) then (readC sizes items (nI s9).toNatClampNeg (nI k).toNatClampNeg dir many).2.2 else many), (if rng (nI k) 0 1 ∧ rng (nI s9) 0 3 ∧ ¬ 0 ≤ forms (nI s9).toNatClampNeg then 1 else finding)), K9, iV9)) tt.heap from by rw [ht]; exact hP)⟩, hS.F ht⟩) hS.2.2 dX0_read_97 hlk
    · have hnr : ¬ rdP forms kind si := fun q9 => c_2 q9.2.1
      have hnf : ¬ (rng kind 0 1 ∧ rng si 0 3 ∧ ¬ 0 ≤ forms si.toNatClampNeg) := fun q9 => c_2 q9.2.1
      refine lv_bipush (v := (-2)) hx hb dX0_read_14 (by decide) ?_
      have hP : va_P G vwCl (Xx t a K (if rdP forms kind si then (readC sizes items si.toNatClampNeg kind.toNatClampNeg dir many).2.2 else many) settings isVoted lotsNow seen keyOne keyTwo votes looked matched without trio takenStar takenAs takenSpot pairs starArms spotArms isTurn places byStar byFar one usedNow laidMany (if rng kind 0 1 ∧ rng si 0 3 ∧ ¬ 0 ≤ forms si.toNatClampNeg then 1 else finding)) s.heap := by (simp only [if_neg hnr, if_neg hnf]; exact hP)
      refine W.widen (k := 21) (n := 63) (Nat.zero_le _) (Nat.zero_le _) ?_
      exact W.iret (v := (-2)) hx hb hr (fun tt ht _ => ⟨⟨_, (((if rdP forms kind si then (readC sizes items si.toNatClampNeg kind.toNatClampNeg dir many).2.2 else many), (if rng kind 0 1 ∧ rng si 0 3 ∧ ¬ 0 ≤ forms si.toNatClampNeg then 1 else finding)), K, isVoted), rfl, ⟨(by rw [if_pos c_1, if_neg c_2]), rfl, (by simp only [if_neg hnr]; exact ⟨⟨hD, Grw.rf K, hB⟩, fun _ => by simp⟩)⟩, (show va_P G vwCl ((fun (uv : ((Nat → Int32) × Int32) × XK × Int32) => Xx t a uv.2.1 uv.1.1 settings uv.2.2 lotsNow seen keyOne keyTwo votes looked matched without trio takenStar takenAs takenSpot pairs starArms spotArms isTurn places byStar byFar one usedNow laidMany uv.1.2) (((if rdP forms kind si then (readC sizes items si.toNatClampNeg kind.toNatClampNeg dir many).2.2 else many), (if rng kind 0 1 ∧ rng si 0 3 ∧ ¬ 0 ≤ forms si.toNatClampNeg then 1 else finding)), K, isVoted)) tt.heap from by rw [ht]; exact hP)⟩, hS.F ht⟩) hS.2.2 dX0_read_16 hlk
