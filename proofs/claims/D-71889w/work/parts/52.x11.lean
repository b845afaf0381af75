/-! the tracker: things, shares, directions, lots -/
theorem cd_J6_floatToIntBits : yJ6_floatToIntBits.cls = RJ6 ∧ yJ6_floatToIntBits.cls ≠ "java/lang/invoke/MethodHandle" ∧ yJ6_floatToIntBits.cls ≠ "java/lang/invoke/VarHandle" ∧ (parseMethodDescriptor yJ6_floatToIntBits.desc).map (fun d => d.parameters.length) = some 1 := by decide +kernel
theorem mx_dot55 (l : Launch) (G : va_G) (t : Nat → ClassId) (q r : Nat) (x y z u v w : Int32) : Met l yX4_dot (ws_ yX4_dot cX4_dot 2 (some .int)) (rm_ 0 0 0 0) (va_Pc [.ref q, .ref r] (mPr G t [(q, .inr (4, [.int x, .int y, .int z])), (r, .inr (4, [.int u, .int v, .int w]))])) (vp_Si (fun rv => rv = dt3 x y z u v w)) 0 0 (fun _ => False) := by
  refine mkx_W (by decide) (Nat.le_of_ble_eq_true rfl) ?_
  intro p e s m below meth c ls hx hb hml hr hlk hts hown hnm hv hl
  obtain ⟨hP, hK⟩ := hv
  have hl : lv_has ls 2 [(0, .ref q), (1, .ref r)] := hl
  refine lv_aload_n hx hb dX4_dot_0 rfl (lv_at hl 0 rfl) ?_
  refine va_get (D := G) (ci := 4) (C := RX5) (T := TX5) (N := 3) hx hb hts in_X5 hown hK hP 0 rfl rfl 0 (by decide) (hts _ q134) (fun _ h => h) rfl dX4_dot_1 ?_
  refine lv_aload_n hx hb dX4_dot_4 rfl (lv_at hl 1 rfl) ?_
  refine va_get (D := G) (ci := 4) (C := RX5) (T := TX5) (N := 3) hx hb hts in_X5 hown hK hP 1 rfl rfl 0 (by decide) (hts _ q134) (fun _ h => h) rfl dX4_dot_5 ?_
  refine lv_imul hx hb dX4_dot_8 ?_
  refine lv_aload_n hx hb dX4_dot_9 rfl (lv_at hl 0 rfl) ?_
  refine va_get (D := G) (ci := 4) (C := RX5) (T := TX5) (N := 3) hx hb hts in_X5 hown hK hP 0 rfl rfl 1 (by decide) (hts _ q135) (fun _ h => h) rfl dX4_dot_10 ?_
  refine lv_aload_n hx hb dX4_dot_13 rfl (lv_at hl 1 rfl) ?_
  refine va_get (D := G) (ci := 4) (C := RX5) (T := TX5) (N := 3) hx hb hts in_X5 hown hK hP 1 rfl rfl 1 (by decide) (hts _ q135) (fun _ h => h) rfl dX4_dot_14 ?_
  refine lv_imul hx hb dX4_dot_17 ?_
  refine lv_iadd hx hb dX4_dot_18 ?_
  refine lv_aload_n hx hb dX4_dot_19 rfl (lv_at hl 0 rfl) ?_
  refine va_get (D := G) (ci := 4) (C := RX5) (T := TX5) (N := 3) hx hb hts in_X5 hown hK hP 0 rfl rfl 2 (by decide) (hts _ q136) (fun _ h => h) rfl dX4_dot_20 ?_
  refine lv_aload_n hx hb dX4_dot_23 rfl (lv_at hl 1 rfl) ?_
  refine va_get (D := G) (ci := 4) (C := RX5) (T := TX5) (N := 3) hx hb hts in_X5 hown hK hP 1 rfl rfl 2 (by decide) (hts _ q136) (fun _ h => h) rfl dX4_dot_24 ?_
  refine lv_imul hx hb dX4_dot_27 ?_
  refine lv_iadd hx hb dX4_dot_28 ?_
  exact W.iret (v := (((x * u) + (y * v)) + (z * w))) hx hb hr (fun tt ht _ => ⟨_, rfl, rfl, ht⟩) (fun _ h => by cases h) dX4_dot_29 hlk
theorem mx_dot56 (l : Launch) (G : va_G) (t : Nat → ClassId) (q r : Nat) (x y z u v w : Int32) : Met l yX4_dot (ws_ yX4_dot cX4_dot 2 (some .int)) (rm_ 0 0 0 0) (va_Pc [.ref q, .ref r] (mPr G t [(q, .inr (4, [.int x, .int y, .int z])), (r, .inr (5, [.int u, .int v, .int w]))])) (vp_Si (fun rv => rv = dt3 x y z u v w)) 0 0 (fun _ => False) := by
  refine mkx_W (by decide) (Nat.le_of_ble_eq_true rfl) ?_
  intro p e s m below meth c ls hx hb hml hr hlk hts hown hnm hv hl
  obtain ⟨hP, hK⟩ := hv
  have hl : lv_has ls 2 [(0, .ref q), (1, .ref r)] := hl
  refine lv_aload_n hx hb dX4_dot_0 rfl (lv_at hl 0 rfl) ?_
  refine va_get (D := G) (ci := 4) (C := RX5) (T := TX5) (N := 3) hx hb hts in_X5 hown hK hP 0 rfl rfl 0 (by decide) (hts _ q134) (fun _ h => h) rfl dX4_dot_1 ?_
  refine lv_aload_n hx hb dX4_dot_4 rfl (lv_at hl 1 rfl) ?_
  refine va_get (D := G) (ci := 5) (C := RX6) (T := TX6) (N := 3) hx hb hts in_X6 hown hK hP 1 rfl rfl 0 (by decide) (hts _ q134) (fun _ h => h) rfl dX4_dot_5 ?_
  refine lv_imul hx hb dX4_dot_8 ?_
  refine lv_aload_n hx hb dX4_dot_9 rfl (lv_at hl 0 rfl) ?_
  refine va_get (D := G) (ci := 4) (C := RX5) (T := TX5) (N := 3) hx hb hts in_X5 hown hK hP 0 rfl rfl 1 (by decide) (hts _ q135) (fun _ h => h) rfl dX4_dot_10 ?_
  refine lv_aload_n hx hb dX4_dot_13 rfl (lv_at hl 1 rfl) ?_
  refine va_get (D := G) (ci := 5) (C := RX6) (T := TX6) (N := 3) hx hb hts in_X6 hown hK hP 1 rfl rfl 1 (by decide) (hts _ q135) (fun _ h => h) rfl dX4_dot_14 ?_
  refine lv_imul hx hb dX4_dot_17 ?_
  refine lv_iadd hx hb dX4_dot_18 ?_
  refine lv_aload_n hx hb dX4_dot_19 rfl (lv_at hl 0 rfl) ?_
  refine va_get (D := G) (ci := 4) (C := RX5) (T := TX5) (N := 3) hx hb hts in_X5 hown hK hP 0 rfl rfl 2 (by decide) (hts _ q136) (fun _ h => h) rfl dX4_dot_20 ?_
  refine lv_aload_n hx hb dX4_dot_23 rfl (lv_at hl 1 rfl) ?_
  refine va_get (D := G) (ci := 5) (C := RX6) (T := TX6) (N := 3) hx hb hts in_X6 hown hK hP 1 rfl rfl 2 (by decide) (hts _ q136) (fun _ h => h) rfl dX4_dot_24 ?_
  refine lv_imul hx hb dX4_dot_27 ?_
  refine lv_iadd hx hb dX4_dot_28 ?_
  exact W.iret (v := (((x * u) + (y * v)) + (z * w))) hx hb hr (fun tt ht _ => ⟨_, rfl, rfl, ht⟩) (fun _ h => by cases h) dX4_dot_29 hlk
theorem mx_dot65 (l : Launch) (G : va_G) (t : Nat → ClassId) (q r : Nat) (x y z u v w : Int32) : Met l yX4_dot (ws_ yX4_dot cX4_dot 2 (some .int)) (rm_ 0 0 0 0) (va_Pc [.ref q, .ref r] (mPr G t [(q, .inr (5, [.int x, .int y, .int z])), (r, .inr (4, [.int u, .int v, .int w]))])) (vp_Si (fun rv => rv = dt3 x y z u v w)) 0 0 (fun _ => False) := by
  refine mkx_W (by decide) (Nat.le_of_ble_eq_true rfl) ?_
  intro p e s m below meth c ls hx hb hml hr hlk hts hown hnm hv hl
  obtain ⟨hP, hK⟩ := hv
  have hl : lv_has ls 2 [(0, .ref q), (1, .ref r)] := hl
  refine lv_aload_n hx hb dX4_dot_0 rfl (lv_at hl 0 rfl) ?_
  refine va_get (D := G) (ci := 5) (C := RX6) (T := TX6) (N := 3) hx hb hts in_X6 hown hK hP 0 rfl rfl 0 (by decide) (hts _ q134) (fun _ h => h) rfl dX4_dot_1 ?_
  refine lv_aload_n hx hb dX4_dot_4 rfl (lv_at hl 1 rfl) ?_
  refine va_get (D := G) (ci := 4) (C := RX5) (T := TX5) (N := 3) hx hb hts in_X5 hown hK hP 1 rfl rfl 0 (by decide) (hts _ q134) (fun _ h => h) rfl dX4_dot_5 ?_
  refine lv_imul hx hb dX4_dot_8 ?_
  refine lv_aload_n hx hb dX4_dot_9 rfl (lv_at hl 0 rfl) ?_
  refine va_get (D := G) (ci := 5) (C := RX6) (T := TX6) (N := 3) hx hb hts in_X6 hown hK hP 0 rfl rfl 1 (by decide) (hts _ q135) (fun _ h => h) rfl dX4_dot_10 ?_
  refine lv_aload_n hx hb dX4_dot_13 rfl (lv_at hl 1 rfl) ?_
  refine va_get (D := G) (ci := 4) (C := RX5) (T := TX5) (N := 3) hx hb hts in_X5 hown hK hP 1 rfl rfl 1 (by decide) (hts _ q135) (fun _ h => h) rfl dX4_dot_14 ?_
  refine lv_imul hx hb dX4_dot_17 ?_
  refine lv_iadd hx hb dX4_dot_18 ?_
  refine lv_aload_n hx hb dX4_dot_19 rfl (lv_at hl 0 rfl) ?_
  refine va_get (D := G) (ci := 5) (C := RX6) (T := TX6) (N := 3) hx hb hts in_X6 hown hK hP 0 rfl rfl 2 (by decide) (hts _ q136) (fun _ h => h) rfl dX4_dot_20 ?_
  refine lv_aload_n hx hb dX4_dot_23 rfl (lv_at hl 1 rfl) ?_
  refine va_get (D := G) (ci := 4) (C := RX5) (T := TX5) (N := 3) hx hb hts in_X5 hown hK hP 1 rfl rfl 2 (by decide) (hts _ q136) (fun _ h => h) rfl dX4_dot_24 ?_
  refine lv_imul hx hb dX4_dot_27 ?_
  refine lv_iadd hx hb dX4_dot_28 ?_
  exact W.iret (v := (((x * u) + (y * v)) + (z * w))) hx hb hr (fun tt ht _ => ⟨_, rfl, rfl, ht⟩) (fun _ h => by cases h) dX4_dot_29 hlk
theorem mx_dot66 (l : Launch) (G : va_G) (t : Nat → ClassId) (q r : Nat) (x y z u v w : Int32) : Met l yX4_dot (ws_ yX4_dot cX4_dot 2 (some .int)) (rm_ 0 0 0 0) (va_Pc [.ref q, .ref r] (mPr G t [(q, .inr (5, [.int x, .int y, .int z])), (r, .inr (5, [.int u, .int v, .int w]))])) (vp_Si (fun rv => rv = dt3 x y z u v w)) 0 0 (fun _ => False) := by
  refine mkx_W (by decide) (Nat.le_of_ble_eq_true rfl) ?_
  intro p e s m below meth c ls hx hb hml hr hlk hts hown hnm hv hl
  obtain ⟨hP, hK⟩ := hv
  have hl : lv_has ls 2 [(0, .ref q), (1, .ref r)] := hl
  refine lv_aload_n hx hb dX4_dot_0 rfl (lv_at hl 0 rfl) ?_
  refine va_get (D := G) (ci := 5) (C := RX6) (T := TX6) (N := 3) hx hb hts in_X6 hown hK hP 0 rfl rfl 0 (by decide) (hts _ q134) (fun _ h => h) rfl dX4_dot_1 ?_
  refine lv_aload_n hx hb dX4_dot_4 rfl (lv_at hl 1 rfl) ?_
  refine va_get (D := G) (ci := 5) (C := RX6) (T := TX6) (N := 3) hx hb hts in_X6 hown hK hP 1 rfl rfl 0 (by decide) (hts _ q134) (fun _ h => h) rfl dX4_dot_5 ?_
  refine lv_imul hx hb dX4_dot_8 ?_
  refine lv_aload_n hx hb dX4_dot_9 rfl (lv_at hl 0 rfl) ?_
  refine va_get (D := G) (ci := 5) (C := RX6) (T := TX6) (N := 3) hx hb hts in_X6 hown hK hP 0 rfl rfl 1 (by decide) (hts _ q135) (fun _ h => h) rfl dX4_dot_10 ?_
  refine lv_aload_n hx hb dX4_dot_13 rfl (lv_at hl 1 rfl) ?_
  refine va_get (D := G) (ci := 5) (C := RX6) (T := TX6) (N := 3) hx hb hts in_X6 hown hK hP 1 rfl rfl 1 (by decide) (hts _ q135) (fun _ h => h) rfl dX4_dot_14 ?_
  refine lv_imul hx hb dX4_dot_17 ?_
  refine lv_iadd hx hb dX4_dot_18 ?_
  refine lv_aload_n hx hb dX4_dot_19 rfl (lv_at hl 0 rfl) ?_
  refine va_get (D := G) (ci := 5) (C := RX6) (T := TX6) (N := 3) hx hb hts in_X6 hown hK hP 0 rfl rfl 2 (by decide) (hts _ q136) (fun _ h => h) rfl dX4_dot_20 ?_
  refine lv_aload_n hx hb dX4_dot_23 rfl (lv_at hl 1 rfl) ?_
  refine va_get (D := G) (ci := 5) (C := RX6) (T := TX6) (N := 3) hx hb hts in_X6 hown hK hP 1 rfl rfl 2 (by decide) (hts _ q136) (fun _ h => h) rfl dX4_dot_24 ?_
  refine lv_imul hx hb dX4_dot_27 ?_
  refine lv_iadd hx hb dX4_dot_28 ?_
  exact W.iret (v := (((x * u) + (y * v)) + (z * w))) hx hb hr (fun tt ht _ => ⟨_, rfl, rfl, ht⟩) (fun _ h => by cases h) dX4_dot_29 hlk
theorem xb_dot {p : Program} {l : Launch} {e : Env} {R : Room} {s : State} {m : MethodId} {args : Array Value} {below : List Frame} {meth : Method} {c : Code} {H : Heap} {locs : List Loc} {cells slots : Nat} {Q : State → Prop} {cc : ByteArray} {pc nL : Nat} {ls : Array Slot} {rest : List Value} {G : va_G} {t : Nat → ClassId} {k k2 q r b d : Nat} {f g : Nat → Int32} (hx : p.tables.exec = Jvm.exec) (hb : c.code = cc) (hml : c.maxLocals = nL) (hown : s.vm.findClass RX0 = some m.cls) (hts : ∀ w ∈ lw_all, w.before args s = true) (hK : va_K G vwCl (Tys t) s) (hP1 : va_P G vwCl [(q, .inr (4 + k, [.int (f (b)), .int (f (b + 1)), .int (f (b + 2))]))] H) (hP2 : va_P G vwCl [(r, .inr (4 + k2, [.int (g (d)), .int (g (d + 1)), .int (g (d + 2))]))] H) (hk : k < 2) (hk2 : k2 < 2) (hls : ls.size = nL) (hR1 : 1 ≤ R.frames) (hR2 : 24 ≤ R.locals) (hrest : (rest.map fun v => v.category).sum ≤ 8) (hdg : decode cc pc = .ok (.invokevirtual 364, 3))
    (kk : W p l e R s m args below meth c H locs cells slots Q (F0 m (pc + 3) ls (.int (dotF f g b d) :: rest))) (hc : cells ≤ R.cells := by exact Nat.zero_le _) (hs : slots ≤ R.slots := by exact Nat.zero_le _) : W p l e R s m args below meth c H locs cells slots Q (F0 m pc ls (.ref r :: .ref q :: rest)) := by
  rcases (show k = 0 ∨ k = 1 by omega) with rfl | rfl <;> rcases (show k2 = 0 ∨ k2 = 1 by omega) with rfl | rfl
  · refine vp_callSi (xl_cr (va_runU (owner := "StarTracker$Body") (As := [.ref r]) (rest := rest) ⟨hx, hb, hml, hown, hts⟩ (mx_dot55 l G t q r (f b) (f (b + 1)) (f (b + 2)) (g d) (g (d + 1)) (g (d + 2))) (va_cwU 1 hts (lw_app (a := [_, _, _, _, _]) (List.forall_mem_cons.mpr ⟨q565, List.forall_mem_cons.mpr ⟨q567, List.forall_mem_cons.mpr ⟨q569, List.forall_mem_cons.mpr ⟨q566, List.forall_mem_cons.mpr ⟨q84, fun _ h => nomatch h⟩⟩⟩⟩⟩) (lw_meth q570)) rfl rfl rfl rfl ⟨by decide, by decide, by decide +kernel⟩ ⟨hR1, Nat.le_trans (Nat.le_of_ble_eq_true rfl) hR2⟩) ⟨mPr_fb, va_recv hK hP1 (ci := 4) (q0 := 0) (q := (RX5, TX5, 3)) rfl rfl, fun U hU hW => ⟨rfl, mPr_of (hP1.app hP2) hK hU hW⟩⟩ rfl rfl hls rfl (by show 2 * 0 + _ ≤ 8; omega) hdg ⟨hc, hs⟩)) (fun r9 hr9 => ?_)
    subst hr9
    exact kk
  · refine vp_callSi (xl_cr (va_runU (owner := "StarTracker$Body") (As := [.ref r]) (rest := rest) ⟨hx, hb, hml, hown, hts⟩ (mx_dot56 l G t q r (f b) (f (b + 1)) (f (b + 2)) (g d) (g (d + 1)) (g (d + 2))) (va_cwU 1 hts (lw_app (a := [_, _, _, _, _]) (List.forall_mem_cons.mpr ⟨q565, List.forall_mem_cons.mpr ⟨q567, List.forall_mem_cons.mpr ⟨q569, List.forall_mem_cons.mpr ⟨q566, List.forall_mem_cons.mpr ⟨q84, fun _ h => nomatch h⟩⟩⟩⟩⟩) (lw_meth q570)) rfl rfl rfl rfl ⟨by decide, by decide, by decide +kernel⟩ ⟨hR1, Nat.le_trans (Nat.le_of_ble_eq_true rfl) hR2⟩) ⟨mPr_fb, va_recv hK hP1 (ci := 4) (q0 := 0) (q := (RX5, TX5, 3)) rfl rfl, fun U hU hW => ⟨rfl, mPr_of (hP1.app hP2) hK hU hW⟩⟩ rfl rfl hls rfl (by show 2 * 0 + _ ≤ 8; omega) hdg ⟨hc, hs⟩)) (fun r9 hr9 => ?_)
    subst hr9
    exact kk
  · refine vp_callSi (xl_cr (va_runU (owner := "StarTracker$Body") (As := [.ref r]) (rest := rest) ⟨hx, hb, hml, hown, hts⟩ (mx_dot65 l G t q r (f b) (f (b + 1)) (f (b + 2)) (g d) (g (d + 1)) (g (d + 2))) (va_cwU 1 hts (lw_app (a := [_, _, _, _, _]) (List.forall_mem_cons.mpr ⟨q565, List.forall_mem_cons.mpr ⟨q567, List.forall_mem_cons.mpr ⟨q568, List.forall_mem_cons.mpr ⟨q566, List.forall_mem_cons.mpr ⟨q84, fun _ h => nomatch h⟩⟩⟩⟩⟩) (lw_meth q570)) rfl rfl rfl rfl ⟨by decide, by decide, by decide +kernel⟩ ⟨hR1, Nat.le_trans (Nat.le_of_ble_eq_true rfl) hR2⟩) ⟨mPr_fb, va_recv hK hP1 (ci := 5) (q0 := 0) (q := (RX6, TX6, 3)) rfl rfl, fun U hU hW => ⟨rfl, mPr_of (hP1.app hP2) hK hU hW⟩⟩ rfl rfl hls rfl (by show 2 * 0 + _ ≤ 8; omega) hdg ⟨hc, hs⟩)) (fun r9 hr9 => ?_)
    subst hr9
    exact kk
  · refine vp_callSi (xl_cr (va_runU (owner := "StarTracker$Body") (As := [.ref r]) (rest := rest) ⟨hx, hb, hml, hown, hts⟩ (mx_dot66 l G t q r (f b) (f (b + 1)) (f (b + 2)) (g d) (g (d + 1)) (g (d + 2))) (va_cwU 1 hts (lw_app (a := [_, _, _, _, _]) (List.forall_mem_cons.mpr ⟨q565, List.forall_mem_cons.mpr ⟨q567, List.forall_mem_cons.mpr ⟨q568, List.forall_mem_cons.mpr ⟨q566, List.forall_mem_cons.mpr ⟨q84, fun _ h => nomatch h⟩⟩⟩⟩⟩) (lw_meth q570)) rfl rfl rfl rfl ⟨by decide, by decide, by decide +kernel⟩ ⟨hR1, Nat.le_trans (Nat.le_of_ble_eq_true rfl) hR2⟩) ⟨mPr_fb, va_recv hK hP1 (ci := 5) (q0 := 0) (q := (RX6, TX6, 3)) rfl rfl, fun U hU hW => ⟨rfl, mPr_of (hP1.app hP2) hK hU hW⟩⟩ rfl rfl hls rfl (by show 2 * 0 + _ ≤ 8; omega) hdg ⟨hc, hs⟩)) (fun r9 hr9 => ?_)
    subst hr9
    exact kk
theorem mx_kind5 (l : Launch) (q : Nat) : Met l yX5_kind (ws_ yX5_kind cX5_kind 1 (some .int)) (rm_ 0 0 0 0) (va_Pc [.ref q] (fun _ => True)) (vp_Si (fun rv => rv = 0)) 0 0 (fun _ => False) := by
  refine mkx_W (by decide) (Nat.le_of_ble_eq_true rfl) ?_
  intro p e s m below meth c ls hx hb hml hr hlk hts hown hnm hv hl
  refine lv_iconst hx hb dX5_kind_0 rfl ?_
  exact W.iret (v := 0) hx hb hr (fun tt ht _ => ⟨_, rfl, rfl, ht⟩) (fun _ h => by cases h) dX5_kind_1 hlk
theorem mx_kind6 (l : Launch) (q : Nat) : Met l yX6_kind (ws_ yX6_kind cX6_kind 1 (some .int)) (rm_ 0 0 0 0) (va_Pc [.ref q] (fun _ => True)) (vp_Si (fun rv => rv = 1)) 0 0 (fun _ => False) := by
  refine mkx_W (by decide) (Nat.le_of_ble_eq_true rfl) ?_
  intro p e s m below meth c ls hx hb hml hr hlk hts hown hnm hv hl
  refine lv_iconst hx hb dX6_kind_0 rfl ?_
  exact W.iret (v := 1) hx hb hr (fun tt ht _ => ⟨_, rfl, rfl, ht⟩) (fun _ h => by cases h) dX6_kind_1 hlk
theorem xb_kind {p : Program} {l : Launch} {e : Env} {R : Room} {s : State} {m : MethodId} {args : Array Value} {below : List Frame} {meth : Method} {c : Code} {H : Heap} {locs : List Loc} {cells slots : Nat} {Q : State → Prop} {cc : ByteArray} {pc nL : Nat} {ls : Array Slot} {rest : List Value} {G : va_G} {t : Nat → ClassId} {k q : Nat} {fs : List Value} (hx : p.tables.exec = Jvm.exec) (hb : c.code = cc) (hml : c.maxLocals = nL) (hown : s.vm.findClass RX0 = some m.cls) (hts : ∀ w ∈ lw_all, w.before args s = true) (hK : va_K G vwCl (Tys t) s) (hN : xNw s) (hP1 : va_P G vwCl [(q, .inr (4 + k, fs))] H) (hk : k < 2) (hls : ls.size = nL) (hR1 : 1 ≤ R.frames) (hR2 : 24 ≤ R.locals) (hrest : (rest.map fun v => v.category).sum ≤ 8) (hdg : decode cc pc = .ok (.invokevirtual 354, 3))
    (kk : W p l e R s m args below meth c H locs cells slots Q (F0 m (pc + 3) ls (.int (nI k) :: rest))) (hc : cells ≤ R.cells := by exact Nat.zero_le _) (hs : slots ≤ R.slots := by exact Nat.zero_le _) : W p l e R s m args below meth c H locs cells slots Q (F0 m pc ls (.ref q :: rest)) := by
  rcases (show k = 0 ∨ k = 1 by omega) with rfl | rfl
  · refine vp_callSi (xl_cr (va_runU (owner := "StarTracker$Body") (As := []) (rest := rest) ⟨hx, hb, hml, hown, hts⟩ (mx_kind5 l q) (va_cwA 0 hts (lw_app (a := [_, _, _, _, _]) (List.forall_mem_cons.mpr ⟨q549, List.forall_mem_cons.mpr ⟨q551, List.forall_mem_cons.mpr ⟨q555, List.forall_mem_cons.mpr ⟨q556, List.forall_mem_cons.mpr ⟨q85, fun _ h => nomatch h⟩⟩⟩⟩⟩) (lw_meth q557)) rfl rfl rfl (hN _ rfl (Or.inl q550)) ⟨by decide, by decide, by decide +kernel⟩ ⟨hR1, Nat.le_trans (Nat.le_of_ble_eq_true rfl) hR2⟩) ⟨pT_fb, va_recv hK hP1 (ci := 4) (q0 := 0) (q := (RX5, TX5, 3)) rfl rfl, fun U hU hW => ⟨rfl, trivial⟩⟩ rfl rfl hls rfl (by show 2 * 0 + _ ≤ 8; omega) hdg ⟨hc, hs⟩)) (fun r9 hr9 => ?_)
    subst hr9
    exact kk
  · refine vp_callSi (xl_cr (va_runU (owner := "StarTracker$Body") (As := []) (rest := rest) ⟨hx, hb, hml, hown, hts⟩ (mx_kind6 l q) (va_cwA 0 hts (lw_app (a := [_, _, _, _, _]) (List.forall_mem_cons.mpr ⟨q549, List.forall_mem_cons.mpr ⟨q551, List.forall_mem_cons.mpr ⟨q552, List.forall_mem_cons.mpr ⟨q553, List.forall_mem_cons.mpr ⟨q86, fun _ h => nomatch h⟩⟩⟩⟩⟩) (lw_meth q554)) rfl rfl rfl (hN _ rfl (Or.inl q550)) ⟨by decide, by decide, by decide +kernel⟩ ⟨hR1, Nat.le_trans (Nat.le_of_ble_eq_true rfl) hR2⟩) ⟨pT_fb, va_recv hK hP1 (ci := 5) (q0 := 0) (q := (RX6, TX6, 3)) rfl rfl, fun U hU hW => ⟨rfl, trivial⟩⟩ rfl rfl hls rfl (by show 2 * 0 + _ ≤ 8; omega) hdg ⟨hc, hs⟩)) (fun r9 hr9 => ?_)
    subst hr9
    exact kk
set_option maxHeartbeats 4000000 in
theorem mx_isLaid (l : Launch) (G : va_G) (t : Nat → ClassId) (A : Nat → Prop) (a : Nat → Nat) (cs : Nat → ClassId) (K : XK) (many : (Nat → Int32)) (settings : (Nat → Int32)) (isVoted : Int32) (lotsNow : Int32) (seen : (Nat → Int32)) (keyOne : (Nat → Int32)) (keyTwo : (Nat → Int32)) (votes : (Nat → Int32)) (looked : Int32) (matched : Int32) (without : Int32) (trio : (Nat → Int32)) (takenStar : (Nat → Int32)) (takenAs : (Nat → Int32)) (takenSpot : (Nat → Int32)) (pairs : Int32) (starArms : (Nat → Int64)) (spotArms : (Nat → Int64)) (isTurn : Int32) (places : (Nat → Int32)) (byStar : (Nat → Int32)) (byFar : (Nat → Int32)) (one : (Nat → Int64)) (usedNow : (Nat → Int32)) (laidMany : (Nat → Int32)) (finding : Int32) (dir : (Nat → Int32)) (w : Int32) (i : Int32) (hL : Tok laidMany) : Met l yX0_isLaid (ws_ yX0_isLaid cX0_isLaid 3 (some .boolean)) (rm_ 0 2 0 0) (va_Pc [.ref (a 0), .int w, .int i] (xPr G t A a cs K.L (Xx t a K many settings isVoted lotsNow seen keyOne keyTwo votes looked matched without trio takenStar takenAs takenSpot pairs starArms spotArms isTurn places byStar byFar one usedNow laidMany finding))) (vp_Si (fun rv => rv = b2i (thgP laidMany w i))) 0 0 (fun _ => False) := by
  refine mkx_W (by decide) (Nat.le_of_ble_eq_true rfl) ?_
  intro p e s m below meth c ls hx hb hml hr hlk hts hown hnm hv hl
  obtain ⟨hP, hK, hD, hA, hE⟩ := hv
  have hS : va_S A s.heap s.heap [] := va_S.rf
  have hl : lv_has ls 3 [(0, .ref (a 0)), (1, .int w), (2, .int i)] := hl
  refine lv_iload_n hx hb dX0_isLaid_0 rfl (lv_at hl 1 rfl) ?_
  refine vp_callSi (W.runS (As := [.int w]) (rest := []) ⟨hx, hb, hml, hown, hts⟩ (mx_isTray l w) (va_cwS 1 hts (lw_S q429 q430 q80 q431) rfl rfl rfl cd_X0_isTray.2 ⟨Nat.le_of_ble_eq_true rfl, Nat.le_of_ble_eq_true rfl⟩) ⟨pT_fb, fun U hU hW => ⟨rfl, trivial⟩⟩ rfl rfl hl.1 rfl (lv_room (Nat.le_of_ble_eq_true rfl)) dX0_isLaid_1 ⟨Nat.le_of_ble_eq_true rfl, Nat.le_of_ble_eq_true rfl⟩) (fun r hr => ?_)
  subst hr
  refine rb_eq (tgt := 27) hx hb dX0_isLaid_4 (by decide) (fun c_1 => ?_) (fun c_1 => ?_)
  · refine lv_iconst (v := 0) hx hb dX0_isLaid_27 (by decide) ?_
    exact W.zret (v := 0) hx hb hr rfl (fun tt ht _ => ⟨_, rfl, (b2i_f (fun h => c_1 h.1)).symm, ht⟩) (fun _ h => by cases h) dX0_isLaid_28 hlk
  · obtain ⟨k, hk, rfl⟩ := rng_ex (n := 3) c_1
    have ew : (nI k).toNatClampNeg = k := tn_nI (by omega)
    have hz8 := (hL k (by omega)).2
    refine lv_iload_n hx hb dX0_isLaid_7 rfl (lv_at hl 2 rfl) ?_
    refine lv_iconst (v := 0) hx hb dX0_isLaid_8 (by decide) ?_
    refine lv_aload_n hx hb dX0_isLaid_9 rfl (lv_at hl 0 rfl) ?_
    refine va_get (D := G) (ci := 0) (C := RX0) (T := TX0) (N := 32) hx hb hts in_X0 hown hK hP 0 xk_this rfl 29 (by decide) (hts _ q662) (fun _ h => h) rfl dX0_isLaid_10 ?_
    refine lv_iload_n hx hb dX0_isLaid_13 rfl (lv_at hl 1 rfl) ?_
    refine r_iald hx hb hK hP 52 0 xk_laidMany rfl (f := laidMany) k rfl (by omega) (by decide) dX0_isLaid_14 ?_
    refine lv_iconst (v := 1) hx hb dX0_isLaid_15 (by decide) ?_
    refine lv_isub hx hb dX0_isLaid_16 ?_
    refine vp_callSi (W.runS (As := [.int i, .int 0, .int ((laidMany k) - 1)]) (rest := []) ⟨hx, hb, hml, hown, hts⟩ (mx_in l i (0 : Int32) ((laidMany k) - 1)) (va_cwS 3 hts (lw_S q108 q109 q80 q110) rfl rfl rfl cd_X0_in.2 ⟨Nat.le_of_ble_eq_true rfl, Nat.le_of_ble_eq_true rfl⟩) ⟨pT_fb, fun U hU hW => ⟨rfl, trivial⟩⟩ rfl rfl hl.1 rfl (lv_room (Nat.le_of_ble_eq_true rfl)) dX0_isLaid_17 ⟨Nat.le_of_ble_eq_true rfl, Nat.le_of_ble_eq_true rfl⟩) (fun r hr => ?_)
    subst hr
    refine r_top (y := b2i (0 ≤ (i : Int32).toInt ∧ (i : Int32).toInt < (zK laidMany k : Int))) (b2i_c (xin_lt (hL k (by omega)).1 (by omega))) ?_
    refine rb_eq (tgt := 27) hx hb dX0_isLaid_20 (by decide) (fun c_2 => ?_) (fun c_2 => ?_)
    · refine lv_iconst (v := 0) hx hb dX0_isLaid_27 (by decide) ?_
      exact W.zret (v := 0) hx hb hr rfl (fun tt ht _ => ⟨_, rfl, (by simp only [thgP, ew]; exact (b2i_f (fun h => c_2 h.2)).symm), ht⟩) (fun _ h => by cases h) dX0_isLaid_28 hlk
    · refine lv_iconst (v := 1) hx hb dX0_isLaid_23 (by decide) ?_
      refine lv_goto (tgt := 28) hx hb dX0_isLaid_24 (by decide) ?_
      exact W.zret (v := 1) hx hb hr rfl (fun tt ht _ => ⟨_, rfl, (by simp only [thgP, ew]; exact (b2i_t ⟨c_1, c_2⟩).symm), ht⟩) (fun _ h => by cases h) dX0_isLaid_28 hlk

set_option maxHeartbeats 4000000 in
theorem mx_thingOf (l : Launch) (G : va_G) (t : Nat → ClassId) (A : Nat → Prop) (a : Nat → Nat) (cs : Nat → ClassId) (K : XK) (many : (Nat → Int32)) (settings : (Nat → Int32)) (isVoted : Int32) (lotsNow : Int32) (seen : (Nat → Int32)) (keyOne : (Nat → Int32)) (keyTwo : (Nat → Int32)) (votes : (Nat → Int32)) (looked : Int32) (matched : Int32) (without : Int32) (trio : (Nat → Int32)) (takenStar : (Nat → Int32)) (takenAs : (Nat → Int32)) (takenSpot : (Nat → Int32)) (pairs : Int32) (starArms : (Nat → Int64)) (spotArms : (Nat → Int64)) (isTurn : Int32) (places : (Nat → Int32)) (byStar : (Nat → Int32)) (byFar : (Nat → Int32)) (one : (Nat → Int64)) (usedNow : (Nat → Int32)) (laidMany : (Nat → Int32)) (finding : Int32) (dir : (Nat → Int32)) (q : Nat) (k : Nat) (bs : Nat) (f : Nat → Int32) (w : Nat) (hk : k < 2) (hw : w < 4) (mq : q ∈ K.L) (fq : K.f q = .inr (4 + k, [.int (f bs), .int (f (bs + 1)), .int (f (bs + 2))])) : Met l yX0_thingOf (ws_ yX0_thingOf cX0_thingOf 2 (some .int)) (rm_ 0 1 0 0) (va_Pc [.ref q, .int (nI w)] (xPr G t A a cs K.L (Xx t a K many settings isVoted lotsNow seen keyOne keyTwo votes looked matched without trio takenStar takenAs takenSpot pairs starArms spotArms isTurn places byStar byFar one usedNow laidMany finding))) (vp_Si (fun rv => rv = if w = 0 then nI k else f (bs + (w - 1)))) 0 0 (fun _ => False) := by
  refine mkx_W (by decide) (Nat.le_of_ble_eq_true rfl) ?_
  intro p e s m below meth c ls hx hb hml hr hlk hts hown hnm hv hl
  obtain ⟨hP, hK, hD, hA, hE⟩ := hv
  have hS : va_S A s.heap s.heap [] := va_S.rf
  have hl : lv_has ls 2 [(0, .ref q), (1, .int (nI w))] := hl
  refine lv_iload_n hx hb dX0_thingOf_0 rfl (lv_at hl 1 rfl) ?_
  refine lv_if_ne (tgt := 11) hx hb dX0_thingOf_1 (by decide) (fun c_1 => ?_) (fun c_1 => ?_)
  · have hw0 : ¬ w = 0 := fun q9 => c_1 (by rw [q9]; rfl)
    refine lv_aload_n hx hb dX0_thingOf_11 rfl (lv_at hl 0 rfl) ?_
    refine lv_iload_n hx hb dX0_thingOf_12 rfl (lv_at hl 1 rfl) ?_
    refine lv_iconst (v := 1) hx hb dX0_thingOf_13 (by decide) ?_
    refine lv_isub hx hb dX0_thingOf_14 ?_
    refine r_top (y := nI (w - 1)) (nI_sub1 (by omega) (by omega)) ?_
    refine xb_along (w := (w - 1)) hx hb hml hown hts hK (x_pool hP mq fq) hk rfl (by omega) hl.1 (Nat.le_of_ble_eq_true rfl) (Nat.le_of_ble_eq_true rfl) (Nat.le_of_ble_eq_true rfl) dX0_thingOf_15 ?_
    exact W.iret (v := (f (bs + (w - 1)))) hx hb hr (fun tt ht _ => ⟨_, rfl, (if_neg hw0).symm, ht⟩) (fun _ h => by cases h) dX0_thingOf_18 hlk
  · have hw0 : w = 0 := (nI_eq (by omega) (by omega)).mp c_1
    refine lv_aload_n hx hb dX0_thingOf_4 rfl (lv_at hl 0 rfl) ?_
    refine xb_kind hx hb hml hown hts hK hE.nw (x_pool hP mq fq) hk hl.1 (Nat.le_of_ble_eq_true rfl) (Nat.le_of_ble_eq_true rfl) (Nat.le_of_ble_eq_true rfl) dX0_thingOf_5 ?_
    refine lv_goto (tgt := 18) hx hb dX0_thingOf_8 (by decide) ?_
    exact W.iret (v := (nI k)) hx hb hr (fun tt ht _ => ⟨_, rfl, (if_pos hw0).symm, ht⟩) (fun _ h => by cases h) dX0_thingOf_18 hlk

set_option maxHeartbeats 4000000 in
theorem mx_thing (l : Launch) (G : va_G) (t : Nat → ClassId) (A : Nat → Prop) (a : Nat → Nat) (cs : Nat → ClassId) (K : XK) (many : (Nat → Int32)) (settings : (Nat → Int32)) (isVoted : Int32) (lotsNow : Int32) (seen : (Nat → Int32)) (keyOne : (Nat → Int32)) (keyTwo : (Nat → Int32)) (votes : (Nat → Int32)) (looked : Int32) (matched : Int32) (without : Int32) (trio : (Nat → Int32)) (takenStar : (Nat → Int32)) (takenAs : (Nat → Int32)) (takenSpot : (Nat → Int32)) (pairs : Int32) (starArms : (Nat → Int64)) (spotArms : (Nat → Int64)) (isTurn : Int32) (places : (Nat → Int32)) (byStar : (Nat → Int32)) (byFar : (Nat → Int32)) (one : (Nat → Int64)) (usedNow : (Nat → Int32)) (laidMany : (Nat → Int32)) (finding : Int32) (dir : (Nat → Int32)) (i : Int32) (j : Int32) (w : Int32) (tray : Nat → Int32) (holds : Nat → Int32) (hT : TryOk t K tray laidMany holds) : Met l yX0_thing (ws_ yX0_thing cX0_thing 4 (some .int)) (rm_ 0 3 0 0) (va_Pc [.ref (a 0), .int i, .int j, .int w] (xPr G t A a cs K.L (Xx t a K many settings isVoted lotsNow seen keyOne keyTwo votes looked matched without trio takenStar takenAs takenSpot pairs starArms spotArms isTurn places byStar byFar one usedNow laidMany finding))) (vp_Si (fun rv => rv = thingR laidMany tray i j w)) 0 0 (fun _ => False) := by
  refine mkx_W (by decide) (Nat.le_of_ble_eq_true rfl) ?_
  intro p e s m below meth c ls hx hb hml hr hlk hts hown hnm hv hl
  obtain ⟨hP, hK, hD, hA, hE⟩ := hv
  have hS : va_S A s.heap s.heap [] := va_S.rf
  have hl : lv_has ls 4 [(0, .ref (a 0)), (1, .int i), (2, .int j), (3, .int w)] := hl
  refine lv_aload_n hx hb dX0_thing_0 rfl (lv_at hl 0 rfl) ?_
  refine lv_iload_n hx hb dX0_thing_1 rfl (lv_at hl 1 rfl) ?_
  refine lv_iload_n hx hb dX0_thing_2 rfl (lv_at hl 2 rfl) ?_
  refine vp_callSi (W.runV (As := [.int i, .int j]) (rest := []) ⟨hx, hb, hml, hown, hts⟩ (mx_isLaid l G t A a cs K many settings isVoted lotsNow seen keyOne keyTwo votes looked matched without trio takenStar takenAs takenSpot pairs starArms spotArms isTurn places byStar byFar one usedNow laidMany finding dir i j hT.1) (cwV 2 hts (lw_V q542 q544 qs35 q80 q545) rfl rfl rfl cd_X0_isLaid ⟨Nat.le_of_ble_eq_true rfl, Nat.le_of_ble_eq_true rfl⟩) ⟨xPr_fb, x_recv hP hK, fun U hU hW => ⟨rfl, xPr_of hP hK hD hS hA hE hU hW⟩⟩ rfl rfl hl.1 rfl (lv_room (Nat.le_of_ble_eq_true rfl)) dX0_thing_3 ⟨Nat.le_of_ble_eq_true rfl, Nat.le_of_ble_eq_true rfl⟩) (fun r hr => ?_)
  subst hr
  refine rb_eq (tgt := 31) hx hb dX0_thing_6 (by decide) (fun c_1 => ?_) (fun c_1 => ?_)
  · refine lv_ldc (v := (-2147483648)) hx hb hown (hts _ q175) dX0_thing_31 ?_
    exact W.iret (v := (-2147483648)) hx hb hr (fun tt ht _ => ⟨_, rfl, (by unfold thingR; (first | rw [if_pos c_1] | rw [if_neg c_1]); skip; (try rfl)), ht⟩) (fun _ h => by cases h) dX0_thing_33 hlk
  · obtain ⟨k, x, hk, hx8, hxk, rfl, rfl⟩ := thgP_ex hT.1 c_1
    have ek : (nI k).toNatClampNeg = k := tn_nI (by omega)
    have ex : (nI x).toNatClampNeg = x := tn_nI (by omega)
    refine lv_iload_n hx hb dX0_thing_9 rfl (lv_at hl 3 rfl) ?_
    refine vp_callSi (W.runS (As := [.int w]) (rest := []) ⟨hx, hb, hml, hown, hts⟩ (mx_isFour l w) (va_cwS 1 hts (lw_S q211 q212 q80 q213) rfl rfl rfl cd_X0_isFour.2 ⟨Nat.le_of_ble_eq_true rfl, Nat.le_of_ble_eq_true rfl⟩) ⟨pT_fb, fun U hU hW => ⟨rfl, trivial⟩⟩ rfl rfl hl.1 rfl (lv_room (Nat.le_of_ble_eq_true rfl)) dX0_thing_10 ⟨Nat.le_of_ble_eq_true rfl, Nat.le_of_ble_eq_true rfl⟩) (fun r hr => ?_)
    subst hr
    refine rb_eq (tgt := 31) hx hb dX0_thing_13 (by decide) (fun c_2 => ?_) (fun c_2 => ?_)
    · refine lv_ldc (v := (-2147483648)) hx hb hown (hts _ q175) dX0_thing_31 ?_
      exact W.iret (v := (-2147483648)) hx hb hr (fun tt ht _ => ⟨_, rfl, (by unfold thingR; (first | rw [if_pos c_1] | rw [if_neg c_1]); (first | rw [if_pos c_2] | rw [if_neg c_2]); (try simp only [ek, ex]); (try rfl)), ht⟩) (fun _ h => by cases h) dX0_thing_33 hlk
    · obtain ⟨w1, hw1, rfl⟩ := rng_ex (n := 3) c_2
      have ew1 : (nI w1).toNatClampNeg = w1 := tn_nI (by omega)
      refine lv_aload_n hx hb dX0_thing_16 rfl (lv_at hl 0 rfl) ?_
      refine va_get (D := G) (ci := 0) (C := RX0) (T := TX0) (N := 32) hx hb hts in_X0 hown hK hP 0 xk_this rfl 28 (by decide) (hts _ q661) (fun _ h => h) rfl dX0_thing_17 ?_
      refine lv_iload_n hx hb dX0_thing_20 rfl (lv_at hl 1 rfl) ?_
      obtain ⟨qt_3, gt_3, et_3, mt_3, ft_3, ht_3⟩ := hT.2 k hk
      refine xq_aald (r := .ref qt_3) hx hb hK hP 51 10 xk_trays rfl rfl k rfl (by omega) (by decide) (by rw [et_3]; rfl) dX0_thing_21 ?_
      refine lv_iload_n hx hb dX0_thing_22 rfl (lv_at hl 2 rfl) ?_
      obtain ⟨kb_4, bb_4, hb_4, tb_4, gb_4, mb_4, fb_4⟩ := ht_3 x hxk
      obtain ⟨tyb_4, etb_4, erb_4⟩ := hT_ty t (holds k)
      refine xq_aald (r := .ref bb_4) hx hb hK (x_pool hP mt_3 ft_3) 0 (hTy (holds k)) rfl etb_4 erb_4 x rfl (by omega) (by decide) (by rw [gb_4]; rfl) dX0_thing_23 ?_
      refine lv_iload_n hx hb dX0_thing_24 rfl (lv_at hl 3 rfl) ?_
      refine vp_callSi (W.runS (As := [.ref bb_4, .int (nI w1)]) (rest := []) ⟨hx, hb, hml, hown, hts⟩ (mx_thingOf l G t A a cs K many settings isVoted lotsNow seen keyOne keyTwo votes looked matched without trio takenStar takenAs takenSpot pairs starArms spotArms isTurn places byStar byFar one usedNow laidMany finding dir bb_4 kb_4 (32 * k + 4 * x + 1) tray w1 hb_4 (by omega) mb_4 fb_4) (va_cwS 2 hts (lw_S q546 q547 q80 q548) rfl rfl rfl cd_X0_thingOf.2 ⟨Nat.le_of_ble_eq_true rfl, Nat.le_of_ble_eq_true rfl⟩) ⟨xPr_fb, fun U hU hW => ⟨rfl, xPr_of hP hK hD hS hA hE hU hW⟩⟩ rfl rfl hl.1 rfl (lv_room (Nat.le_of_ble_eq_true rfl)) dX0_thing_25 ⟨Nat.le_of_ble_eq_true rfl, Nat.le_of_ble_eq_true rfl⟩) (fun r hr => ?_)
      subst hr
      refine lv_goto (tgt := 33) hx hb dX0_thing_28 (by decide) ?_
      exact W.iret (v := if w1 = 0 then nI kb_4 else tray ((32 * k + 4 * x + 1) + (w1 - 1))) hx hb hr (fun tt ht _ => ⟨_, rfl, (by unfold thingR; rw [if_pos c_1, if_pos c_2]; simp only [ek, ex, ew1]; exact thg_at tb_4 w1), ht⟩) (fun _ h => by cases h) dX0_thing_33 hlk

set_option maxHeartbeats 4000000 in
theorem mx_shareOf (l : Launch) (G : va_G) (t : Nat → ClassId) (A : Nat → Prop) (a : Nat → Nat) (cs : Nat → ClassId) (K : XK) (many : (Nat → Int32)) (settings : (Nat → Int32)) (isVoted : Int32) (lotsNow : Int32) (seen : (Nat → Int32)) (keyOne : (Nat → Int32)) (keyTwo : (Nat → Int32)) (votes : (Nat → Int32)) (looked : Int32) (matched : Int32) (without : Int32) (trio : (Nat → Int32)) (takenStar : (Nat → Int32)) (takenAs : (Nat → Int32)) (takenSpot : (Nat → Int32)) (pairs : Int32) (starArms : (Nat → Int64)) (spotArms : (Nat → Int64)) (isTurn : Int32) (places : (Nat → Int32)) (byStar : (Nat → Int32)) (byFar : (Nat → Int32)) (one : (Nat → Int64)) (usedNow : (Nat → Int32)) (laidMany : (Nat → Int32)) (finding : Int32) (dir : (Nat → Int32)) (q : Nat) (k : Nat) (bs : Nat) (r : Nat) (k2 : Nat) (ds : Nat) (f : Nat → Int32) (hk : k < 2) (hk2 : k2 < 2) (mq : q ∈ K.L) (fq : K.f q = .inr (4 + k, [.int (f bs), .int (f (bs + 1)), .int (f (bs + 2))])) (mr : r ∈ K.L) (fr : K.f r = .inr (4 + k2, [.int (f ds), .int (f (ds + 1)), .int (f (ds + 2))])) (hz : shN (dotF f f bs ds) (dotF f f bs bs)) : Met l yX0_shareOf (ws_ yX0_shareOf cX0_shareOf 4 (some .int)) (rm_ 0 2 0 0) (va_Pc [.ref q, .ref r] (xPr G t A a cs K.L (Xx t a K many settings isVoted lotsNow seen keyOne keyTwo votes looked matched without trio takenStar takenAs takenSpot pairs starArms spotArms isTurn places byStar byFar one usedNow laidMany finding))) (vp_Si (fun rv => rv = shF (dotF f f bs ds) (dotF f f bs bs))) 0 0 (fun _ => False) := by
  refine mkx_W (by decide) (Nat.le_of_ble_eq_true rfl) ?_
  intro p e s m below meth c ls hx hb hml hr hlk hts hown hnm hv hl
  obtain ⟨hP, hK, hD, hA, hE⟩ := hv
  have hS : va_S A s.heap s.heap [] := va_S.rf
  have hl : lv_has ls 4 [(0, .ref q), (1, .ref r)] := hl
  refine lv_aload_n hx hb dX0_shareOf_0 rfl (lv_at hl 0 rfl) ?_
  refine lv_aload_n hx hb dX0_shareOf_1 rfl (lv_at hl 1 rfl) ?_
  refine xb_dot hx hb hml hown hts hK (x_pool hP mq fq) (x_pool hP mr fr) hk hk2 hl.1 (Nat.le_of_ble_eq_true rfl) (Nat.le_of_ble_eq_true rfl) (Nat.le_of_ble_eq_true rfl) dX0_shareOf_2 ?_
  refine lv_i2f hx hb dX0_shareOf_5 ?_
  refine lv_fstore_n (lv' := [(2, .float (FP.i2f (dotF f f bs ds))), (0, .ref q), (1, .ref r)]) hx hb dX0_shareOf_6 rfl hl (by decide) rfl (fun ls hl => ?_)
  refine lv_aload_n hx hb dX0_shareOf_7 rfl (lv_at hl 1 rfl) ?_
  refine lv_aload_n hx hb dX0_shareOf_8 rfl (lv_at hl 1 rfl) ?_
  refine xb_dot hx hb hml hown hts hK (x_pool hP mq fq) (x_pool hP mq fq) hk hk hl.1 (Nat.le_of_ble_eq_true rfl) (Nat.le_of_ble_eq_true rfl) (Nat.le_of_ble_eq_true rfl) dX0_shareOf_9 ?_
  refine lv_i2f hx hb dX0_shareOf_12 ?_
  refine lv_fstore_n (lv' := [(3, .float (FP.i2f (dotF f f bs bs))), (2, .float (FP.i2f (dotF f f bs ds))), (0, .ref q), (1, .ref r)]) hx hb dX0_shareOf_13 rfl hl (by decide) rfl (fun ls hl => ?_)
  refine lv_fload_n hx hb dX0_shareOf_14 rfl (lv_at hl 1 rfl) ?_
  refine lv_fload_n hx hb dX0_shareOf_15 rfl (lv_at hl 0 rfl) ?_
  refine lv_fdiv hx hb dX0_shareOf_16 (sh_n32 hz) ?_
  refine vp_callSi (W.runS (As := [.float (FP.fdiv (FP.i2f (dotF f f bs ds)) (FP.i2f (dotF f f bs bs)))]) (rest := []) ⟨hx, hb, hml, hown, hts⟩ (mx_bits l (FP.fdiv (FP.i2f (dotF f f bs ds)) (FP.i2f (dotF f f bs bs))) hz) (va_cwS 1 hts (lw_S q571 q572 q94 q573) rfl rfl rfl cd_J6_floatToIntBits.2 ⟨Nat.le_of_ble_eq_true rfl, Nat.le_of_ble_eq_true rfl⟩) ⟨pT_fb, fun U hU hW => ⟨rfl, trivial⟩⟩ rfl rfl hl.1 rfl (lv_room (Nat.le_of_ble_eq_true rfl)) dX0_shareOf_17 ⟨Nat.le_of_ble_eq_true rfl, Nat.le_of_ble_eq_true rfl⟩) (fun r hr => ?_)
  subst hr
  exact W.iret (v := (FP.fdiv (FP.i2f (dotF f f bs ds)) (FP.i2f (dotF f f bs bs))).toInt32) hx hb hr (fun tt ht _ => ⟨_, rfl, rfl, ht⟩) (fun _ h => by cases h) dX0_shareOf_20 hlk

set_option maxHeartbeats 4000000 in
theorem mx_share (l : Launch) (G : va_G) (t : Nat → ClassId) (A : Nat → Prop) (a : Nat → Nat) (cs : Nat → ClassId) (K : XK) (many : (Nat → Int32)) (settings : (Nat → Int32)) (isVoted : Int32) (lotsNow : Int32) (seen : (Nat → Int32)) (keyOne : (Nat → Int32)) (keyTwo : (Nat → Int32)) (votes : (Nat → Int32)) (looked : Int32) (matched : Int32) (without : Int32) (trio : (Nat → Int32)) (takenStar : (Nat → Int32)) (takenAs : (Nat → Int32)) (takenSpot : (Nat → Int32)) (pairs : Int32) (starArms : (Nat → Int64)) (spotArms : (Nat → Int64)) (isTurn : Int32) (places : (Nat → Int32)) (byStar : (Nat → Int32)) (byFar : (Nat → Int32)) (one : (Nat → Int64)) (usedNow : (Nat → Int32)) (laidMany : (Nat → Int32)) (finding : Int32) (dir : (Nat → Int32)) (i : Int32) (j : Int32) (h : Int32) (tray : Nat → Int32) (holds : Nat → Int32) (hT : TryOk t K tray laidMany holds) (hN : TryNn tray laidMany) : Met l yX0_share (ws_ yX0_share cX0_share 4 (some .int)) (rm_ 0 3 0 0) (va_Pc [.ref (a 0), .int i, .int j, .int h] (xPr G t A a cs K.L (Xx t a K many settings isVoted lotsNow seen keyOne keyTwo votes looked matched without trio takenStar takenAs takenSpot pairs starArms spotArms isTurn places byStar byFar one usedNow laidMany finding))) (vp_Si (fun rv => rv = shareX laidMany tray i j h)) 0 0 (fun _ => False) := by
  refine mkx_W (by decide) (Nat.le_of_ble_eq_true rfl) ?_
  intro p e s m below meth c ls hx hb hml hr hlk hts hown hnm hv hl
  obtain ⟨hP, hK, hD, hA, hE⟩ := hv
  have hS : va_S A s.heap s.heap [] := va_S.rf
  have hl : lv_has ls 4 [(0, .ref (a 0)), (1, .int i), (2, .int j), (3, .int h)] := hl
  refine lv_aload_n hx hb dX0_share_0 rfl (lv_at hl 0 rfl) ?_
  refine lv_iload_n hx hb dX0_share_1 rfl (lv_at hl 1 rfl) ?_
  refine lv_iload_n hx hb dX0_share_2 rfl (lv_at hl 2 rfl) ?_
  refine vp_callSi (W.runV (As := [.int i, .int j]) (rest := []) ⟨hx, hb, hml, hown, hts⟩ (mx_isLaid l G t A a cs K many settings isVoted lotsNow seen keyOne keyTwo votes looked matched without trio takenStar takenAs takenSpot pairs starArms spotArms isTurn places byStar byFar one usedNow laidMany finding dir i j hT.1) (cwV 2 hts (lw_V q542 q544 qs35 q80 q545) rfl rfl rfl cd_X0_isLaid ⟨Nat.le_of_ble_eq_true rfl, Nat.le_of_ble_eq_true rfl⟩) ⟨xPr_fb, x_recv hP hK, fun U hU hW => ⟨rfl, xPr_of hP hK hD hS hA hE hU hW⟩⟩ rfl rfl hl.1 rfl (lv_room (Nat.le_of_ble_eq_true rfl)) dX0_share_3 ⟨Nat.le_of_ble_eq_true rfl, Nat.le_of_ble_eq_true rfl⟩) (fun r hr => ?_)
  subst hr
  refine rb_eq (tgt := 40) hx hb dX0_share_6 (by decide) (fun c_1 => ?_) (fun c_1 => ?_)
  · refine lv_ldc (v := (-2147483648)) hx hb hown (hts _ q175) dX0_share_40 ?_
    exact W.iret (v := (-2147483648)) hx hb hr (fun tt ht _ => ⟨_, rfl, (by unfold shareX; (first | rw [if_pos c_1] | rw [if_neg c_1]); skip; (try rfl)), ht⟩) (fun _ h => by cases h) dX0_share_42 hlk
  · obtain ⟨k, x, hk, hx8, hxk, rfl, rfl⟩ := thgP_ex hT.1 c_1
    have ek : (nI k).toNatClampNeg = k := tn_nI (by omega)
    have ex : (nI x).toNatClampNeg = x := tn_nI (by omega)
    refine lv_aload_n hx hb dX0_share_9 rfl (lv_at hl 0 rfl) ?_
    refine lv_iload_n hx hb dX0_share_10 rfl (lv_at hl 1 rfl) ?_
    refine lv_iload_n hx hb dX0_share_11 rfl (lv_at hl 3 rfl) ?_
    refine vp_callSi (W.runV (As := [.int (nI k), .int h]) (rest := []) ⟨hx, hb, hml, hown, hts⟩ (mx_isLaid l G t A a cs K many settings isVoted lotsNow seen keyOne keyTwo votes looked matched without trio takenStar takenAs takenSpot pairs starArms spotArms isTurn places byStar byFar one usedNow laidMany finding dir (nI k) h hT.1) (cwV 2 hts (lw_V q542 q544 qs35 q80 q545) rfl rfl rfl cd_X0_isLaid ⟨Nat.le_of_ble_eq_true rfl, Nat.le_of_ble_eq_true rfl⟩) ⟨xPr_fb, x_recv hP hK, fun U hU hW => ⟨rfl, xPr_of hP hK hD hS hA hE hU hW⟩⟩ rfl rfl hl.1 rfl (lv_room (Nat.le_of_ble_eq_true rfl)) dX0_share_12 ⟨Nat.le_of_ble_eq_true rfl, Nat.le_of_ble_eq_true rfl⟩) (fun r hr => ?_)
    subst hr
    refine rb_eq (tgt := 40) hx hb dX0_share_15 (by decide) (fun c_2 => ?_) (fun c_2 => ?_)
    · refine lv_ldc (v := (-2147483648)) hx hb hown (hts _ q175) dX0_share_40 ?_
      exact W.iret (v := (-2147483648)) hx hb hr (fun tt ht _ => ⟨_, rfl, (by unfold shareX; (first | rw [if_pos c_1] | rw [if_neg c_1]); (first | rw [if_pos c_2] | rw [if_neg c_2]); (try simp only [ek, ex]); (try rfl)), ht⟩) (fun _ h => by cases h) dX0_share_42 hlk
    · obtain ⟨y, hy8, hyk, rfl⟩ := thgP_ex2 hT.1 hk c_2
      have ey : (nI y).toNatClampNeg = y := tn_nI (by omega)
      refine lv_aload_n hx hb dX0_share_18 rfl (lv_at hl 0 rfl) ?_
      refine va_get (D := G) (ci := 0) (C := RX0) (T := TX0) (N := 32) hx hb hts in_X0 hown hK hP 0 xk_this rfl 28 (by decide) (hts _ q661) (fun _ h => h) rfl dX0_share_19 ?_
      refine lv_iload_n hx hb dX0_share_22 rfl (lv_at hl 1 rfl) ?_
      obtain ⟨qt_3, gt_3, et_3, mt_3, ft_3, ht_3⟩ := hT.2 k hk
      refine xq_aald (r := .ref qt_3) hx hb hK hP 51 10 xk_trays rfl rfl k rfl (by omega) (by decide) (by rw [et_3]; rfl) dX0_share_23 ?_
      refine lv_iload_n hx hb dX0_share_24 rfl (lv_at hl 2 rfl) ?_
      obtain ⟨kb_4, bb_4, hb_4, tb_4, gb_4, mb_4, fb_4⟩ := ht_3 x hxk
      obtain ⟨tyb_4, etb_4, erb_4⟩ := hT_ty t (holds k)
      refine xq_aald (r := .ref bb_4) hx hb hK (x_pool hP mt_3 ft_3) 0 (hTy (holds k)) rfl etb_4 erb_4 x rfl (by omega) (by decide) (by rw [gb_4]; rfl) dX0_share_25 ?_
      refine lv_aload_n hx hb dX0_share_26 rfl (lv_at hl 0 rfl) ?_
      refine va_get (D := G) (ci := 0) (C := RX0) (T := TX0) (N := 32) hx hb hts in_X0 hown hK hP 0 xk_this rfl 28 (by decide) (hts _ q661) (fun _ h => h) rfl dX0_share_27 ?_
      refine lv_iload_n hx hb dX0_share_30 rfl (lv_at hl 1 rfl) ?_
      obtain ⟨qt_5, gt_5, et_5, mt_5, ft_5, ht_5⟩ := hT.2 k hk
      refine xq_aald (r := .ref qt_5) hx hb hK hP 51 10 xk_trays rfl rfl k rfl (by omega) (by decide) (by rw [et_5]; rfl) dX0_share_31 ?_
      refine lv_iload_n hx hb dX0_share_32 rfl (lv_at hl 3 rfl) ?_
      obtain ⟨kb_6, bb_6, hb_6, tb_6, gb_6, mb_6, fb_6⟩ := ht_5 y hyk
      obtain ⟨tyb_6, etb_6, erb_6⟩ := hT_ty t (holds k)
      refine xq_aald (r := .ref bb_6) hx hb hK (x_pool hP mt_5 ft_5) 0 (hTy (holds k)) rfl etb_6 erb_6 y rfl (by omega) (by decide) (by rw [gb_6]; rfl) dX0_share_33 ?_
      refine vp_callSi (W.runS (As := [.ref bb_4, .ref bb_6]) (rest := []) ⟨hx, hb, hml, hown, hts⟩ (mx_shareOf l G t A a cs K many settings isVoted lotsNow seen keyOne keyTwo votes looked matched without trio takenStar takenAs takenSpot pairs starArms spotArms isTurn places byStar byFar one usedNow laidMany finding dir bb_4 kb_4 (32 * k + 4 * x + 1) bb_6 kb_6 (32 * k + 4 * y + 1) tray hb_4 hb_6 mb_4 fb_4 mb_6 fb_6 (by rw [dotF_prod, dotF_prod]; exact hN k x y hk hxk hyk)) (va_cwS 2 hts (lw_S q562 q563 q80 q564) rfl rfl rfl cd_X0_shareOf.2 ⟨Nat.le_of_ble_eq_true rfl, Nat.le_of_ble_eq_true rfl⟩) ⟨xPr_fb, fun U hU hW => ⟨rfl, xPr_of hP hK hD hS hA hE hU hW⟩⟩ rfl rfl hl.1 rfl (lv_room (Nat.le_of_ble_eq_true rfl)) dX0_share_34 ⟨Nat.le_of_ble_eq_true rfl, Nat.le_of_ble_eq_true rfl⟩) (fun r hr => ?_)
      subst hr
      refine lv_goto (tgt := 42) hx hb dX0_share_37 (by decide) ?_
      exact W.iret (v := shF (dotF tray tray (32 * k + 4 * x + 1) (32 * k + 4 * y + 1)) (dotF tray tray (32 * k + 4 * x + 1) (32 * k + 4 * x + 1))) hx hb hr (fun tt ht _ => ⟨_, rfl, (by unfold shareX; rw [if_pos c_1, if_pos c_2]; simp only [ek, ex, ey]; rw [dotF_prod, dotF_prod]), ht⟩) (fun _ h => by cases h) dX0_share_42 hlk

set_option maxHeartbeats 4000000 in
theorem mx_take (l : Launch) (G : va_G) (t : Nat → ClassId) (A : Nat → Prop) (a : Nat → Nat) (cs : Nat → ClassId) (K : XK) (many : (Nat → Int32)) (settings : (Nat → Int32)) (isVoted : Int32) (lotsNow : Int32) (seen : (Nat → Int32)) (keyOne : (Nat → Int32)) (keyTwo : (Nat → Int32)) (votes : (Nat → Int32)) (looked : Int32) (matched : Int32) (without : Int32) (trio : (Nat → Int32)) (takenStar : (Nat → Int32)) (takenAs : (Nat → Int32)) (takenSpot : (Nat → Int32)) (pairs : Int32) (starArms : (Nat → Int64)) (spotArms : (Nat → Int64)) (isTurn : Int32) (places : (Nat → Int32)) (byStar : (Nat → Int32)) (byFar : (Nat → Int32)) (one : (Nat → Int64)) (usedNow : (Nat → Int32)) (laidMany : (Nat → Int32)) (finding : Int32) (dir : (Nat → Int32)) (w : Int32) (hL : Tok laidMany) : Met l yX0_take (ws_ yX0_take cX0_take 2 (some .int)) (rm_ 0 2 0 0) (va_Pc [.ref (a 0), .int w] (xPr G t A a cs K.L (Xx t a K many settings isVoted lotsNow seen keyOne keyTwo votes looked matched without trio takenStar takenAs takenSpot pairs starArms spotArms isTurn places byStar byFar one usedNow laidMany finding))) (va_Qi (fun rv (uv : (Nat → Int32)) => rv = (if rng w 0 3 then (if laidMany w.toNatClampNeg = 0 then -3 else laidMany w.toNatClampNeg - 1) else -2) ∧ uv = (if rng w 0 3 then (if laidMany w.toNatClampNeg = 0 then laidMany else upd laidMany w.toNatClampNeg (laidMany w.toNatClampNeg - 1)) else laidMany)) (mB G (fun (uv : (Nat → Int32)) => Xx t a K many settings isVoted lotsNow seen keyOne keyTwo votes looked matched without trio takenStar takenAs takenSpot pairs starArms spotArms isTurn places byStar byFar one usedNow uv finding)) A) 0 0 A := by
  refine mkx_W (by decide) (Nat.le_of_ble_eq_true rfl) ?_
  intro p e s m below meth c ls hx hb hml hr hlk hts hown hnm hv hl
  obtain ⟨hP, hK, hD, hA, hE⟩ := hv
  have hS : va_S A s.heap s.heap [] := va_S.rf
  have hl : lv_has ls 2 [(0, .ref (a 0)), (1, .int w)] := hl
  refine lv_iload_n hx hb dX0_take_0 rfl (lv_at hl 1 rfl) ?_
  refine vp_callSi (W.runS (As := [.int w]) (rest := []) ⟨hx, hb, hml, hown, hts⟩ (mx_isTray l w) (va_cwS 1 hts (lw_S q429 q430 q80 q431) rfl rfl rfl cd_X0_isTray.2 ⟨Nat.le_of_ble_eq_true rfl, Nat.le_of_ble_eq_true rfl⟩) ⟨pT_fb, fun U hU hW => ⟨rfl, trivial⟩⟩ rfl rfl hl.1 rfl (lv_room (Nat.le_of_ble_eq_true rfl)) dX0_take_1 ⟨Nat.le_of_ble_eq_true rfl, Nat.le_of_ble_eq_true rfl⟩) (fun r hr => ?_)
  subst hr
  refine rb_ne (tgt := 10) hx hb dX0_take_4 (by decide) (fun c_1 => ?_) (fun c_1 => ?_)
  · obtain ⟨k, hk, rfl⟩ := rng_ex (n := 3) c_1
    have ek : (nI k).toNatClampNeg = k := tn_nI (by omega)
    refine lv_aload_n hx hb dX0_take_10 rfl (lv_at hl 0 rfl) ?_
    refine va_get (D := G) (ci := 0) (C := RX0) (T := TX0) (N := 32) hx hb hts in_X0 hown hK hP 0 xk_this rfl 29 (by decide) (hts _ q662) (fun _ h => h) rfl dX0_take_11 ?_
    refine lv_iload_n hx hb dX0_take_14 rfl (lv_at hl 1 rfl) ?_
    refine r_iald hx hb hK hP 52 0 xk_laidMany rfl (f := laidMany) k rfl (by omega) (by decide) dX0_take_15 ?_
    refine lv_if_ne (tgt := 22) hx hb dX0_take_16 (by decide) (fun c_2 => ?_) (fun c_2 => ?_)
    · refine lv_aload_n hx hb dX0_take_22 rfl (lv_at hl 0 rfl) ?_
      refine va_get (D := G) (ci := 0) (C := RX0) (T := TX0) (N := 32) hx hb hts in_X0 hown hK hP 0 xk_this rfl 29 (by decide) (hts _ q662) (fun _ h => h) rfl dX0_take_23 ?_
      refine lv_iload_n hx hb dX0_take_26 rfl (lv_at hl 1 rfl) ?_
      refine lv_dup2_11 hx hb dX0_take_27 rfl rfl ?_
      refine r_iald hx hb hK hP 52 0 xk_laidMany rfl (f := laidMany) k rfl (by omega) (by decide) dX0_take_28 ?_
      refine lv_iconst (v := 1) hx hb dX0_take_29 (by decide) ?_
      refine lv_isub hx hb dX0_take_30 ?_
      refine r_iast hx hb hK hP (xD hD) hS 52 0 xk_laidMany rfl k rfl (by omega) (by decide) dX0_take_31 (ws' := Xx t a K many settings isVoted lotsNow seen keyOne keyTwo votes looked matched without trio takenStar takenAs takenSpot pairs starArms spotArms isTurn places byStar byFar one usedNow (upd laidMany k ((laidMany k) - 1)) finding) (xs_laidMany _) (fun H locs hP hS => ?_)
      refine lv_aload_n hx hb dX0_take_32 rfl (lv_at hl 0 rfl) ?_
      refine va_get (D := G) (ci := 0) (C := RX0) (T := TX0) (N := 32) hx hb hts in_X0 hown hK hP 0 xk_this rfl 29 (by decide) (hts _ q662) (fun _ h => h) rfl dX0_take_33 ?_
      refine lv_iload_n hx hb dX0_take_36 rfl (lv_at hl 1 rfl) ?_
      refine r_iald hx hb hK hP 52 0 xk_laidMany rfl (f := (upd laidMany k ((laidMany k) - 1))) k rfl (by omega) (by decide) dX0_take_37 ?_
      have hP : va_P G vwCl (Xx t a K many settings isVoted lotsNow seen keyOne keyTwo votes looked matched without trio takenStar takenAs takenSpot pairs starArms spotArms isTurn places byStar byFar one usedNow (if rng (nI k) 0 3 then (if laidMany (nI k).toNatClampNeg = 0 then laidMany else upd laidMany (nI k).toNatClampNeg (laidMany (nI k).toNatClampNeg - 1)) else laidMany) finding) H := by (simp only [if_pos c_1, if_neg c_2, ek]; exact hP)
      exact W.iret (v := ((upd laidMany k ((laidMany k) - 1)) k)) hx hb hr (fun tt ht _ => ⟨⟨_, (if rng (nI k) 0 3 then (if laidMany (nI k).toNatClampNeg = 0 then laidMany else upd laidMany (nI k).toNatClampNeg (laidMany (nI k).toNatClampNeg - 1)) else laidMany), rfl, ⟨(by simp only [if_pos c_1, if_neg c_2, ek]; try simp [upd]), rfl⟩, (show va_P G vwCl ((fun (uv : (Nat → Int32)) => Xx t a K many settings isVoted lotsNow seen keyOne keyTwo votes looked matched without trio takenStar takenAs takenSpot pairs starArms spotArms isTurn places byStar byFar one usedNow uv finding) (if rng (nI k) 0 3 then (if laidMany (nI k).toNatClampNeg = 0 then laidMany else upd laidMany (nI k).toNatClampNeg (laidMany (nI k).toNatClampNeg - 1)) else laidMany)) tt.heap from by rw [ht]; exact hP)⟩, hS.F ht⟩) hS.2.2 dX0_take_38 hlk
    · refine lv_bipush (v := (-3)) hx hb dX0_take_19 (by decide) ?_
      have hP : va_P G vwCl (Xx t a K many settings isVoted lotsNow seen keyOne keyTwo votes looked matched without trio takenStar takenAs takenSpot pairs starArms spotArms isTurn places byStar byFar one usedNow (if rng (nI k) 0 3 then (if laidMany (nI k).toNatClampNeg = 0 then laidMany else upd laidMany (nI k).toNatClampNeg (laidMany (nI k).toNatClampNeg - 1)) else laidMany) finding) s.heap := by (simp only [if_pos c_1, if_pos c_2, ek]; exact hP)
      exact W.iret (v := (-3)) hx hb hr (fun tt ht _ => ⟨⟨_, (if rng (nI k) 0 3 then (if laidMany (nI k).toNatClampNeg = 0 then laidMany else upd laidMany (nI k).toNatClampNeg (laidMany (nI k).toNatClampNeg - 1)) else laidMany), rfl, ⟨(by simp only [if_pos c_1, if_pos c_2, ek]), rfl⟩, (show va_P G vwCl ((fun (uv : (Nat → Int32)) => Xx t a K many settings isVoted lotsNow seen keyOne keyTwo votes looked matched without trio takenStar takenAs takenSpot pairs starArms spotArms isTurn places byStar byFar one usedNow uv finding) (if rng (nI k) 0 3 then (if laidMany (nI k).toNatClampNeg = 0 then laidMany else upd laidMany (nI k).toNatClampNeg (laidMany (nI k).toNatClampNeg - 1)) else laidMany)) tt.heap from by rw [ht]; exact hP)⟩, hS.F ht⟩) hS.2.2 dX0_take_21 hlk
  · refine lv_bipush (v := (-2)) hx hb dX0_take_7 (by decide) ?_
    have hP : va_P G vwCl (Xx t a K many settings isVoted lotsNow seen keyOne keyTwo votes looked matched without trio takenStar takenAs takenSpot pairs starArms spotArms isTurn places byStar byFar one usedNow (if rng w 0 3 then (if laidMany w.toNatClampNeg = 0 then laidMany else upd laidMany w.toNatClampNeg (laidMany w.toNatClampNeg - 1)) else laidMany) finding) s.heap := by (simp only [if_neg c_1]; exact hP)
    exact W.iret (v := (-2)) hx hb hr (fun tt ht _ => ⟨⟨_, (if rng w 0 3 then (if laidMany w.toNatClampNeg = 0 then laidMany else upd laidMany w.toNatClampNeg (laidMany w.toNatClampNeg - 1)) else laidMany), rfl, ⟨(by simp only [if_neg c_1]), rfl⟩, (show va_P G vwCl ((fun (uv : (Nat → Int32)) => Xx t a K many settings isVoted lotsNow seen keyOne keyTwo votes looked matched without trio takenStar takenAs takenSpot pairs starArms spotArms isTurn places byStar byFar one usedNow uv finding) (if rng w 0 3 then (if laidMany w.toNatClampNeg = 0 then laidMany else upd laidMany w.toNatClampNeg (laidMany w.toNatClampNeg - 1)) else laidMany)) tt.heap from by rw [ht]; exact hP)⟩, hS.F ht⟩) hS.2.2 dX0_take_9 hlk

set_option maxHeartbeats 4000000 in
theorem mx_isDirection (l : Launch) (x : Int32) (y : Int32) (z : Int32) : Met l yX0_isDirection (ws_ yX0_isDirection cX0_isDirection 4 (some .boolean)) (rm_ 0 1 0 0) (va_Pc [.int x, .int y, .int z] (fun _ => True)) (vp_Si (fun rv => rv = b2i (dirP x y z))) 0 0 (fun _ => False) := by
  refine mkx_W (by decide) (Nat.le_of_ble_eq_true rfl) ?_
  intro p e s m below meth c ls hx hb hml hr hlk hts hown hnm hv hl
  have hl : lv_has ls 4 [(0, .int x), (1, .int y), (2, .int z)] := hl
  refine lv_iload_n hx hb dX0_isDirection_0 rfl (lv_at hl 0 rfl) ?_
  refine lv_bipush (v := (-100)) hx hb dX0_isDirection_1 (by decide) ?_
  refine lv_bipush (v := 100) hx hb dX0_isDirection_3 (by decide) ?_
  refine vp_callSi (W.runS (As := [.int x, .int (-100), .int 100]) (rest := []) ⟨hx, hb, hml, hown, hts⟩ (mx_in l x (-100 : Int32) (100 : Int32)) (va_cwS 3 hts (lw_S q108 q109 q80 q110) rfl rfl rfl cd_X0_in.2 ⟨Nat.le_of_ble_eq_true rfl, Nat.le_of_ble_eq_true rfl⟩) ⟨pT_fb, fun U hU hW => ⟨rfl, trivial⟩⟩ rfl rfl hl.1 rfl (lv_room (Nat.le_of_ble_eq_true rfl)) dX0_isDirection_5 ⟨Nat.le_of_ble_eq_true rfl, Nat.le_of_ble_eq_true rfl⟩) (fun r hr => ?_)
  subst hr
  refine r_top (y := b2i (rng x (-100) 100)) (b2i_c (by simp [rng])) ?_
  refine rb_eq (tgt := 37) hx hb dX0_isDirection_8 (by decide) (fun c_1 => ?_) (fun c_1 => ?_)
  · refine lv_iconst (v := 0) hx hb dX0_isDirection_37 (by decide) ?_
    refine lv_istore_n (lv' := [(3, .int 0), (0, .int x), (1, .int y), (2, .int z)]) hx hb dX0_isDirection_38 rfl hl (by decide) rfl (fun ls hl => ?_)
    refine lv_iload_n hx hb dX0_isDirection_39 rfl (lv_at hl 0 rfl) ?_
    refine lv_if_eq (tgt := 59) hx hb dX0_isDirection_40 (by decide) (fun c_2 => ?_) (fun c_2 => absurd c_2 (by decide))
    refine lv_iconst (v := 0) hx hb dX0_isDirection_59 (by decide) ?_
    exact W.zret (v := 0) hx hb hr rfl (fun tt ht _ => ⟨_, rfl, (by simp [dirP, rng, b2i, c_1] at *; first | done | omega | (simp_all)), ht⟩) (fun _ h => by cases h) dX0_isDirection_60 hlk
  · refine lv_iload_n hx hb dX0_isDirection_11 rfl (lv_at hl 1 rfl) ?_
    refine lv_bipush (v := (-100)) hx hb dX0_isDirection_12 (by decide) ?_
    refine lv_bipush (v := 100) hx hb dX0_isDirection_14 (by decide) ?_
    refine vp_callSi (W.runS (As := [.int y, .int (-100), .int 100]) (rest := []) ⟨hx, hb, hml, hown, hts⟩ (mx_in l y (-100 : Int32) (100 : Int32)) (va_cwS 3 hts (lw_S q108 q109 q80 q110) rfl rfl rfl cd_X0_in.2 ⟨Nat.le_of_ble_eq_true rfl, Nat.le_of_ble_eq_true rfl⟩) ⟨pT_fb, fun U hU hW => ⟨rfl, trivial⟩⟩ rfl rfl hl.1 rfl (lv_room (Nat.le_of_ble_eq_true rfl)) dX0_isDirection_16 ⟨Nat.le_of_ble_eq_true rfl, Nat.le_of_ble_eq_true rfl⟩) (fun r hr => ?_)
    subst hr
    refine r_top (y := b2i (rng y (-100) 100)) (b2i_c (by simp [rng])) ?_
    refine rb_eq (tgt := 37) hx hb dX0_isDirection_19 (by decide) (fun c_3 => ?_) (fun c_3 => ?_)
    · refine lv_iconst (v := 0) hx hb dX0_isDirection_37 (by decide) ?_
      refine lv_istore_n (lv' := [(3, .int 0), (0, .int x), (1, .int y), (2, .int z)]) hx hb dX0_isDirection_38 rfl hl (by decide) rfl (fun ls hl => ?_)
      refine lv_iload_n hx hb dX0_isDirection_39 rfl (lv_at hl 0 rfl) ?_
      refine lv_if_eq (tgt := 59) hx hb dX0_isDirection_40 (by decide) (fun c_4 => ?_) (fun c_4 => absurd c_4 (by decide))
      refine lv_iconst (v := 0) hx hb dX0_isDirection_59 (by decide) ?_
      exact W.zret (v := 0) hx hb hr rfl (fun tt ht _ => ⟨_, rfl, (by simp [dirP, rng, b2i, c_1, c_3] at *; first | done | omega | (simp_all)), ht⟩) (fun _ h => by cases h) dX0_isDirection_60 hlk
    · refine lv_iload_n hx hb dX0_isDirection_22 rfl (lv_at hl 2 rfl) ?_
      refine lv_bipush (v := (-100)) hx hb dX0_isDirection_23 (by decide) ?_
      refine lv_bipush (v := 100) hx hb dX0_isDirection_25 (by decide) ?_
      refine vp_callSi (W.runS (As := [.int z, .int (-100), .int 100]) (rest := []) ⟨hx, hb, hml, hown, hts⟩ (mx_in l z (-100 : Int32) (100 : Int32)) (va_cwS 3 hts (lw_S q108 q109 q80 q110) rfl rfl rfl cd_X0_in.2 ⟨Nat.le_of_ble_eq_true rfl, Nat.le_of_ble_eq_true rfl⟩) ⟨pT_fb, fun U hU hW => ⟨rfl, trivial⟩⟩ rfl rfl hl.1 rfl (lv_room (Nat.le_of_ble_eq_true rfl)) dX0_isDirection_27 ⟨Nat.le_of_ble_eq_true rfl, Nat.le_of_ble_eq_true rfl⟩) (fun r hr => ?_)
      subst hr
      refine r_top (y := b2i (rng z (-100) 100)) (b2i_c (by simp [rng])) ?_
      refine rb_eq (tgt := 37) hx hb dX0_isDirection_30 (by decide) (fun c_5 => ?_) (fun c_5 => ?_)
      · refine lv_iconst (v := 0) hx hb dX0_isDirection_37 (by decide) ?_
        refine lv_istore_n (lv' := [(3, .int 0), (0, .int x), (1, .int y), (2, .int z)]) hx hb dX0_isDirection_38 rfl hl (by decide) rfl (fun ls hl => ?_)
        refine lv_iload_n hx hb dX0_isDirection_39 rfl (lv_at hl 0 rfl) ?_
        refine lv_if_eq (tgt := 59) hx hb dX0_isDirection_40 (by decide) (fun c_6 => ?_) (fun c_6 => absurd c_6 (by decide))
        refine lv_iconst (v := 0) hx hb dX0_isDirection_59 (by decide) ?_
        exact W.zret (v := 0) hx hb hr rfl (fun tt ht _ => ⟨_, rfl, (by simp [dirP, rng, b2i, c_1, c_3, c_5] at *; first | done | omega | (simp_all)), ht⟩) (fun _ h => by cases h) dX0_isDirection_60 hlk
      · refine lv_iconst (v := 1) hx hb dX0_isDirection_33 (by decide) ?_
        refine lv_goto (tgt := 38) hx hb dX0_isDirection_34 (by decide) ?_
        refine lv_istore_n (lv' := [(3, .int 1), (0, .int x), (1, .int y), (2, .int z)]) hx hb dX0_isDirection_38 rfl hl (by decide) rfl (fun ls hl => ?_)
        refine lv_iload_n hx hb dX0_isDirection_39 rfl (lv_at hl 0 rfl) ?_
        refine lv_if_eq (tgt := 59) hx hb dX0_isDirection_40 (by decide) (fun c_7 => absurd c_7 (by decide)) (fun c_7 => ?_)
        refine lv_iload_n hx hb dX0_isDirection_43 rfl (lv_at hl 1 rfl) ?_
        refine lv_if_ne (tgt := 55) hx hb dX0_isDirection_44 (by decide) (fun c_8 => ?_) (fun c_8 => ?_)
        · refine lv_iconst (v := 1) hx hb dX0_isDirection_55 (by decide) ?_
          refine lv_goto (tgt := 60) hx hb dX0_isDirection_56 (by decide) ?_
          exact W.zret (v := 1) hx hb hr rfl (fun tt ht _ => ⟨_, rfl, (by simp [dirP, rng, b2i, c_1, c_3, c_5, c_8] at *; first | done | omega | (simp_all)), ht⟩) (fun _ h => by cases h) dX0_isDirection_60 hlk
        · refine lv_iload_n hx hb dX0_isDirection_47 rfl (lv_at hl 2 rfl) ?_
          refine lv_if_ne (tgt := 55) hx hb dX0_isDirection_48 (by decide) (fun c_9 => ?_) (fun c_9 => ?_)
          · refine lv_iconst (v := 1) hx hb dX0_isDirection_55 (by decide) ?_
            refine lv_goto (tgt := 60) hx hb dX0_isDirection_56 (by decide) ?_
            exact W.zret (v := 1) hx hb hr rfl (fun tt ht _ => ⟨_, rfl, (by simp [dirP, rng, b2i, c_1, c_3, c_5, c_8, c_9] at *; first | done | omega | (simp_all)), ht⟩) (fun _ h => by cases h) dX0_isDirection_60 hlk
          · refine lv_iload_n hx hb dX0_isDirection_51 rfl (lv_at hl 3 rfl) ?_
            refine lv_if_eq (tgt := 59) hx hb dX0_isDirection_52 (by decide) (fun c_10 => ?_) (fun c_10 => ?_)
            · refine lv_iconst (v := 0) hx hb dX0_isDirection_59 (by decide) ?_
              exact W.zret (v := 0) hx hb hr rfl (fun tt ht _ => ⟨_, rfl, (by simp [dirP, rng, b2i, c_1, c_3, c_5, c_8, c_9, c_10] at *; first | done | omega | (simp_all)), ht⟩) (fun _ h => by cases h) dX0_isDirection_60 hlk
            · refine lv_iconst (v := 1) hx hb dX0_isDirection_55 (by decide) ?_
              refine lv_goto (tgt := 60) hx hb dX0_isDirection_56 (by decide) ?_
              exact W.zret (v := 1) hx hb hr rfl (fun tt ht _ => ⟨_, rfl, (by simp [dirP, rng, b2i, c_1, c_3, c_5, c_8, c_9, c_10] at *; first | done | omega | (simp_all)), ht⟩) (fun _ h => by cases h) dX0_isDirection_60 hlk

set_option maxHeartbeats 4000000 in
theorem mx_lot (l : Launch) (G : va_G) (t : Nat → ClassId) (A : Nat → Prop) (a : Nat → Nat) (cs : Nat → ClassId) (K : XK) (many : (Nat → Int32)) (settings : (Nat → Int32)) (isVoted : Int32) (lotsNow : Int32) (seen : (Nat → Int32)) (keyOne : (Nat → Int32)) (keyTwo : (Nat → Int32)) (votes : (Nat → Int32)) (looked : Int32) (matched : Int32) (without : Int32) (trio : (Nat → Int32)) (takenStar : (Nat → Int32)) (takenAs : (Nat → Int32)) (takenSpot : (Nat → Int32)) (pairs : Int32) (starArms : (Nat → Int64)) (spotArms : (Nat → Int64)) (isTurn : Int32) (places : (Nat → Int32)) (byStar : (Nat → Int32)) (byFar : (Nat → Int32)) (one : (Nat → Int64)) (usedNow : (Nat → Int32)) (laidMany : (Nat → Int32)) (finding : Int32) (dir : (Nat → Int32)) (n : Int32) (hn : ¬ n = 0) : Met l yX0_lot (ws_ yX0_lot cX0_lot 2 (some .int)) (rm_ 0 0 0 0) (va_Pc [.ref (a 0), .int n] (xPr G t A a cs K.L (Xx t a K many settings isVoted lotsNow seen keyOne keyTwo votes looked matched without trio takenStar takenAs takenSpot pairs starArms spotArms isTurn places byStar byFar one usedNow laidMany finding))) (va_Qi (fun rv (uv : Int32) => rv = lotR lotsNow n ∧ uv = (lotN lotsNow)) (mB G (fun (uv : Int32) => Xx t a K many settings isVoted uv seen keyOne keyTwo votes looked matched without trio takenStar takenAs takenSpot pairs starArms spotArms isTurn places byStar byFar one usedNow laidMany finding)) A) 0 0 A := by
  refine mkx_W (by decide) (Nat.le_of_ble_eq_true rfl) ?_
  intro p e s m below meth c ls hx hb hml hr hlk hts hown hnm hv hl
  obtain ⟨hP, hK, hD, hA, hE⟩ := hv
  have hS : va_S A s.heap s.heap [] := va_S.rf
  have hl : lv_has ls 2 [(0, .ref (a 0)), (1, .int n)] := hl
  refine lv_aload_n hx hb dX0_lot_0 rfl (lv_at hl 0 rfl) ?_
  refine lv_ldc (v := 1103515245) hx hb hown (hts _ q230) dX0_lot_1 ?_
  refine lv_aload_n hx hb dX0_lot_3 rfl (lv_at hl 0 rfl) ?_
  refine va_get (D := G) (ci := 0) (C := RX0) (T := TX0) (N := 32) hx hb hts in_X0 hown hK hP 0 xk_this rfl 7 (by decide) (hts _ q640) (fun _ h => h) rfl dX0_lot_4 ?_
  refine lv_imul hx hb dX0_lot_7 ?_
  refine lv_sipush (v := 12345) hx hb dX0_lot_8 (by decide) ?_
  refine lv_iadd hx hb dX0_lot_11 ?_
  refine va_put (D := G) (ci := 0) (v := .int ((1103515245 * lotsNow) + 12345)) (ty := .int) (C := RX0) (T := TX0) (N := 32) hx hb hts in_X0 tyX0 tyX0_ok nmX0 hown hK hP (xD hD) hS 0 xk_this rfl 7 (by decide) (hts _ q640) (fun _ h => h) rfl (by decide +kernel) rfl rfl (Nat.le_of_ble_eq_true rfl) dX0_lot_12 (fun H locs hP _ hS => ?_)
  have hP : va_P G vwCl (Xx t a K many settings isVoted ((1103515245 * lotsNow) + 12345) seen keyOne keyTwo votes looked matched without trio takenStar takenAs takenSpot pairs starArms spotArms isTurn places byStar byFar one usedNow laidMany finding) H := by rw [xs_lotsNow] at hP; exact hP
  refine lv_aload_n hx hb dX0_lot_15 rfl (lv_at hl 0 rfl) ?_
  refine va_get (D := G) (ci := 0) (C := RX0) (T := TX0) (N := 32) hx hb hts in_X0 hown hK hP 0 xk_this rfl 7 (by decide) (hts _ q640) (fun _ h => h) rfl dX0_lot_16 ?_
  refine lv_bipush (v := 16) hx hb dX0_lot_19 (by decide) ?_
  refine lv_iushr (v := ((((1103515245 * lotsNow) + 12345)).toUInt32 >>> ((16 : Int32).toUInt32 &&& Int32.toUInt32 31)).toInt32) hx hb dX0_lot_21 rfl ?_
  refine lv_iload_n hx hb dX0_lot_22 rfl (lv_at hl 1 rfl) ?_
  refine lv_irem hx hb dX0_lot_23 hn ?_
  exact W.iret (v := (((((1103515245 * lotsNow) + 12345)).toUInt32 >>> ((16 : Int32).toUInt32 &&& Int32.toUInt32 31)).toInt32 - ((((1103515245 * lotsNow) + 12345)).toUInt32 >>> ((16 : Int32).toUInt32 &&& Int32.toUInt32 31)).toInt32 / n * n)) hx hb hr (fun tt ht _ => ⟨⟨_, (lotN lotsNow), rfl, ⟨rfl, rfl⟩, (show va_P G vwCl ((fun (uv : Int32) => Xx t a K many settings isVoted uv seen keyOne keyTwo votes looked matched without trio takenStar takenAs takenSpot pairs starArms spotArms isTurn places byStar byFar one usedNow laidMany finding) (lotN lotsNow)) tt.heap from by rw [ht]; exact hP)⟩, hS.F ht⟩) hS.2.2 dX0_lot_24 hlk
