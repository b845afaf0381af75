/-! bodies: along, side, dot, kind -/
/-- one of three -/
def al3 (x y z : Int32) (w : Nat) : Int32 := if w = 0 then x else if w = 1 then y else z
theorem al3_at (f : Nat → Int32) (b : Nat) {w : Nat} (h : w < 3) : al3 (f b) (f (b + 1)) (f (b + 2)) w = f (b + w) := by
  match w, h with
  | 0, _ => rfl
  | 1, _ => rfl
  | 2, _ => rfl
  | w + 3, h => exact absurd h (by omega)
def sd3 (x y z u v w : Int32) : Int32 := (x - u) * (x - u) + (y - v) * (y - v) + (z - w) * (z - w)
theorem sd3_at (f : Nat → Int32) (b d : Nat) : sd3 (f b) (f (b + 1)) (f (b + 2)) (f d) (f (d + 1)) (f (d + 2)) = sideF f b d := by
  unfold sd3 sideF
  rw [Int32.zero_add]
  rfl
def dt3 (x y z u v w : Int32) : Int32 := x * u + y * v + z * w
theorem mx_along5 (l : Launch) (G : va_G) (t : Nat → ClassId) (q : Nat) (x y z : Int32) (n : Nat) (hn : n < 3) : Met l yX4_along (ws_ yX4_along cX4_along 2 (some .int)) (rm_ 0 0 0 0) (va_Pc [.ref q, .int (nI n)] (mPr G t [(q, .inr (4, [.int x, .int y, .int z]))])) (vp_Si (fun rv => rv = al3 x y z n)) 0 0 (fun _ => False) := by
  refine mkx_W (by decide) (Nat.le_of_ble_eq_true rfl) ?_
  intro p e s m below meth c ls hx hb hml hr hlk hts hown hnm hv hl
  obtain ⟨hP, hK⟩ := hv
  have hl : lv_has ls 2 [(0, .ref q), (1, .int (nI n))] := hl
  refine lv_iload_n hx hb dX4_along_0 rfl (lv_at hl 1 rfl) ?_
  refine lv_if_ne (tgt := 11) hx hb dX4_along_1 (by decide) (fun c_1 => ?_) (fun c_1 => ?_)
  · refine lv_iload_n hx hb dX4_along_11 rfl (lv_at hl 1 rfl) ?_
    refine lv_iconst (v := 1) hx hb dX4_along_12 (by decide) ?_
    refine rn_ne (tgt := 23) hx hb dX4_along_13 (by decide) rfl (nI_q 1) (by omega) (by omega) (fun c_2 => ?_) (fun c_2 => ?_)
    · refine lv_aload_n hx hb dX4_along_23 rfl (lv_at hl 0 rfl) ?_
      refine va_get (D := G) (ci := 4) (C := RX5) (T := TX5) (N := 3) hx hb hts in_X5 hown hK hP 0 rfl rfl 2 (by decide) (hts _ q136) (fun _ h => h) rfl dX4_along_24 ?_
      exact W.iret (v := z) hx hb hr (fun tt ht _ => ⟨_, rfl, (by unfold al3; have hn3 := hn; rw [if_neg (by intro q9; subst q9; exact c_1 rfl)]; rw [if_neg c_2]), ht⟩) (fun _ h => by cases h) dX4_along_27 hlk
    · refine lv_aload_n hx hb dX4_along_16 rfl (lv_at hl 0 rfl) ?_
      refine va_get (D := G) (ci := 4) (C := RX5) (T := TX5) (N := 3) hx hb hts in_X5 hown hK hP 0 rfl rfl 1 (by decide) (hts _ q135) (fun _ h => h) rfl dX4_along_17 ?_
      refine lv_goto (tgt := 27) hx hb dX4_along_20 (by decide) ?_
      exact W.iret (v := y) hx hb hr (fun tt ht _ => ⟨_, rfl, (by unfold al3; have hn3 := hn; rw [if_neg (by intro q9; subst q9; exact c_1 rfl)]; rw [if_pos c_2]), ht⟩) (fun _ h => by cases h) dX4_along_27 hlk
  · refine lv_aload_n hx hb dX4_along_4 rfl (lv_at hl 0 rfl) ?_
    refine va_get (D := G) (ci := 4) (C := RX5) (T := TX5) (N := 3) hx hb hts in_X5 hown hK hP 0 rfl rfl 0 (by decide) (hts _ q134) (fun _ h => h) rfl dX4_along_5 ?_
    refine lv_goto (tgt := 27) hx hb dX4_along_8 (by decide) ?_
    exact W.iret (v := x) hx hb hr (fun tt ht _ => ⟨_, rfl, (by unfold al3; have hn3 := hn; rw [if_pos (by first | exact (nI_eq (by omega) (by omega)).mp c_1 | omega)]), ht⟩) (fun _ h => by cases h) dX4_along_27 hlk
theorem mx_side5 (l : Launch) (G : va_G) (t : Nat → ClassId) (q : Nat) (r : Nat) (x y z u v w : Int32) : Met l yX4_side (ws_ yX4_side cX4_side 5 (some .int)) (rm_ 0 0 0 0) (va_Pc [.ref q, .ref r] (mPr G t [(q, .inr (4, [.int x, .int y, .int z])), (r, .inr (4, [.int u, .int v, .int w]))])) (vp_Si (fun rv => rv = sd3 x y z u v w)) 0 0 (fun _ => False) := by
  refine mkx_W (by decide) (Nat.le_of_ble_eq_true rfl) ?_
  intro p e s m below meth c ls hx hb hml hr hlk hts hown hnm hv hl
  obtain ⟨hP, hK⟩ := hv
  have hl : lv_has ls 5 [(0, .ref q), (1, .ref r)] := hl
  refine lv_aload_n hx hb dX4_side_0 rfl (lv_at hl 0 rfl) ?_
  refine va_get (D := G) (ci := 4) (C := RX5) (T := TX5) (N := 3) hx hb hts in_X5 hown hK hP 0 rfl rfl 0 (by decide) (hts _ q134) (fun _ h => h) rfl dX4_side_1 ?_
  refine lv_aload_n hx hb dX4_side_4 rfl (lv_at hl 1 rfl) ?_
  refine va_get (D := G) (ci := 4) (C := RX5) (T := TX5) (N := 3) hx hb hts in_X5 hown hK hP 1 rfl rfl 0 (by decide) (hts _ q134) (fun _ h => h) rfl dX4_side_5 ?_
  refine lv_isub hx hb dX4_side_8 ?_
  refine lv_istore_n (lv' := [(2, .int (x - u)), (0, .ref q), (1, .ref r)]) hx hb dX4_side_9 rfl hl (by decide) rfl (fun ls hl => ?_)
  refine lv_aload_n hx hb dX4_side_10 rfl (lv_at hl 1 rfl) ?_
  refine va_get (D := G) (ci := 4) (C := RX5) (T := TX5) (N := 3) hx hb hts in_X5 hown hK hP 0 rfl rfl 1 (by decide) (hts _ q135) (fun _ h => h) rfl dX4_side_11 ?_
  refine lv_aload_n hx hb dX4_side_14 rfl (lv_at hl 2 rfl) ?_
  refine va_get (D := G) (ci := 4) (C := RX5) (T := TX5) (N := 3) hx hb hts in_X5 hown hK hP 1 rfl rfl 1 (by decide) (hts _ q135) (fun _ h => h) rfl dX4_side_15 ?_
  refine lv_isub hx hb dX4_side_18 ?_
  refine lv_istore_n (lv' := [(3, .int (y - v)), (2, .int (x - u)), (0, .ref q), (1, .ref r)]) hx hb dX4_side_19 rfl hl (by decide) rfl (fun ls hl => ?_)
  refine lv_aload_n hx hb dX4_side_20 rfl (lv_at hl 2 rfl) ?_
  refine va_get (D := G) (ci := 4) (C := RX5) (T := TX5) (N := 3) hx hb hts in_X5 hown hK hP 0 rfl rfl 2 (by decide) (hts _ q136) (fun _ h => h) rfl dX4_side_21 ?_
  refine lv_aload_n hx hb dX4_side_24 rfl (lv_at hl 3 rfl) ?_
  refine va_get (D := G) (ci := 4) (C := RX5) (T := TX5) (N := 3) hx hb hts in_X5 hown hK hP 1 rfl rfl 2 (by decide) (hts _ q136) (fun _ h => h) rfl dX4_side_25 ?_
  refine lv_isub hx hb dX4_side_28 ?_
  refine lv_istore (lv' := [(4, .int (z - w)), (3, .int (y - v)), (2, .int (x - u)), (0, .ref q), (1, .ref r)]) hx hb dX4_side_29 hl (by decide) rfl (fun ls hl => ?_)
  refine lv_iload_n hx hb dX4_side_31 rfl (lv_at hl 2 rfl) ?_
  refine lv_iload_n hx hb dX4_side_32 rfl (lv_at hl 2 rfl) ?_
  refine lv_imul hx hb dX4_side_33 ?_
  refine lv_iload_n hx hb dX4_side_34 rfl (lv_at hl 1 rfl) ?_
  refine lv_iload_n hx hb dX4_side_35 rfl (lv_at hl 1 rfl) ?_
  refine lv_imul hx hb dX4_side_36 ?_
  refine lv_iadd hx hb dX4_side_37 ?_
  refine lv_iload hx hb dX4_side_38 (lv_at hl 0 rfl) ?_
  refine lv_iload hx hb dX4_side_40 (lv_at hl 0 rfl) ?_
  refine lv_imul hx hb dX4_side_42 ?_
  refine lv_iadd hx hb dX4_side_43 ?_
  exact W.iret (v := ((((x - u) * (x - u)) + ((y - v) * (y - v))) + ((z - w) * (z - w)))) hx hb hr (fun tt ht _ => ⟨_, rfl, rfl, ht⟩) (fun _ h => by cases h) dX4_side_44 hlk
theorem mx_dot5 (l : Launch) (G : va_G) (t : Nat → ClassId) (q : Nat) (r : Nat) (x y z u v w : Int32) : Met l yX4_dot (ws_ yX4_dot cX4_dot 2 (some .int)) (rm_ 0 0 0 0) (va_Pc [.ref q, .ref r] (mPr G t [(q, .inr (4, [.int x, .int y, .int z])), (r, .inr (4, [.int u, .int v, .int w]))])) (vp_Si (fun rv => rv = dt3 x y z u v w)) 0 0 (fun _ => False) := by
  refine mkx_W (by decide) (Nat.le_of_ble_eq_true rfl) ?_
  intro p e s m below meth c ls hx hb hml hr hlk hts hown hnm hv hl
  obtain ⟨hP, hK⟩ := hv
  have hl : lv_has ls 2 [(0, .ref q), (1, .ref r)] := hl
  refine lv_aload_n hx hb dX4_dot_0 rfl (lv_at hl 0 rfl) ?_
  refine va_get (D := G) (ci := 4) (C := RX5) (T := TX5) (N := 3) hx hb hts in_X5 hown hK hP 0 rfl rfl 0 (by decide) (hts _ q134) (fun _ h => h) rfl dX4_dot_1 ?_
  refine lv_aload_n hx hb dX4_dot_4 rfl (lv_at hl 1 rfl) ?_
  refine va_get (D := G) (ci := 4) (C := RX5) (T := TX5) (N := 3) hx hb hts in_X5 hown hK hP 1 rfl rfl 0 (by decide) (hts _ q134) (fun _ h => h) rfl dX4_dot_5 ?_
  refine lv_imul hx hb dX4_dot_8 ?_
  refine lv_aload_n hx hb dX4_dot_9 rfl (lv_at hl 0 rfl) ?_
  refine va_get (D := G) (ci := 4) (C := RX5) (T := TX5) (N := 3) hx hb hts in_X5 hown hK hP 0 rfl rfl 1 (by decide) (hts _ q135) (fun _ h => h) rfl dX4_dot_10 ?_
  refine lv_aload_n hx hb dX4_dot_13 rfl (lv_at hl 1 rfl) ?_
  refine va_get (D := G) (ci := 4) (C := RX5) (T := TX5) (N := 3) hx hb hts in_X5 hown hK hP 1 rfl rfl 1 (by decide) (hts _ q135) (fun _ h => h) rfl dX4_dot_14 ?_
  refine lv_imul hx hb dX4_dot_17 ?_
  refine lv_iadd hx hb dX4_dot_18 ?_
  refine lv_aload_n hx hb dX4_dot_19 rfl (lv_at hl 0 rfl) ?_
  refine va_get (D := G) (ci := 4) (C := RX5) (T := TX5) (N := 3) hx hb hts in_X5 hown hK hP 0 rfl rfl 2 (by decide) (hts _ q136) (fun _ h => h) rfl dX4_dot_20 ?_
  refine lv_aload_n hx hb dX4_dot_23 rfl (lv_at hl 1 rfl) ?_
  refine va_get (D := G) (ci := 4) (C := RX5) (T := TX5) (N := 3) hx hb hts in_X5 hown hK hP 1 rfl rfl 2 (by decide) (hts _ q136) (fun _ h => h) rfl dX4_dot_24 ?_
  refine lv_imul hx hb dX4_dot_27 ?_
  refine lv_iadd hx hb dX4_dot_28 ?_
  exact W.iret (v := (((x * u) + (y * v)) + (z * w))) hx hb hr (fun tt ht _ => ⟨_, rfl, rfl, ht⟩) (fun _ h => by cases h) dX4_dot_29 hlk
theorem mx_along6 (l : Launch) (G : va_G) (t : Nat → ClassId) (q : Nat) (x y z : Int32) (n : Nat) (hn : n < 3) : Met l yX4_along (ws_ yX4_along cX4_along 2 (some .int)) (rm_ 0 0 0 0) (va_Pc [.ref q, .int (nI n)] (mPr G t [(q, .inr (5, [.int x, .int y, .int z]))])) (vp_Si (fun rv => rv = al3 x y z n)) 0 0 (fun _ => False) := by
  refine mkx_W (by decide) (Nat.le_of_ble_eq_true rfl) ?_
  intro p e s m below meth c ls hx hb hml hr hlk hts hown hnm hv hl
  obtain ⟨hP, hK⟩ := hv
  have hl : lv_has ls 2 [(0, .ref q), (1, .int (nI n))] := hl
  refine lv_iload_n hx hb dX4_along_0 rfl (lv_at hl 1 rfl) ?_
  refine lv_if_ne (tgt := 11) hx hb dX4_along_1 (by decide) (fun c_1 => ?_) (fun c_1 => ?_)
  · refine lv_iload_n hx hb dX4_along_11 rfl (lv_at hl 1 rfl) ?_
    refine lv_iconst (v := 1) hx hb dX4_along_12 (by decide) ?_
    refine rn_ne (tgt := 23) hx hb dX4_along_13 (by decide) rfl (nI_q 1) (by omega) (by omega) (fun c_2 => ?_) (fun c_2 => ?_)
    · refine lv_aload_n hx hb dX4_along_23 rfl (lv_at hl 0 rfl) ?_
      refine va_get (D := G) (ci := 5) (C := RX6) (T := TX6) (N := 3) hx hb hts in_X6 hown hK hP 0 rfl rfl 2 (by decide) (hts _ q136) (fun _ h => h) rfl dX4_along_24 ?_
      exact W.iret (v := z) hx hb hr (fun tt ht _ => ⟨_, rfl, (by unfold al3; have hn3 := hn; rw [if_neg (by intro q9; subst q9; exact c_1 rfl)]; rw [if_neg c_2]), ht⟩) (fun _ h => by cases h) dX4_along_27 hlk
    · refine lv_aload_n hx hb dX4_along_16 rfl (lv_at hl 0 rfl) ?_
      refine va_get (D := G) (ci := 5) (C := RX6) (T := TX6) (N := 3) hx hb hts in_X6 hown hK hP 0 rfl rfl 1 (by decide) (hts _ q135) (fun _ h => h) rfl dX4_along_17 ?_
      refine lv_goto (tgt := 27) hx hb dX4_along_20 (by decide) ?_
      exact W.iret (v := y) hx hb hr (fun tt ht _ => ⟨_, rfl, (by unfold al3; have hn3 := hn; rw [if_neg (by intro q9; subst q9; exact c_1 rfl)]; rw [if_pos c_2]), ht⟩) (fun _ h => by cases h) dX4_along_27 hlk
  · refine lv_aload_n hx hb dX4_along_4 rfl (lv_at hl 0 rfl) ?_
    refine va_get (D := G) (ci := 5) (C := RX6) (T := TX6) (N := 3) hx hb hts in_X6 hown hK hP 0 rfl rfl 0 (by decide) (hts _ q134) (fun _ h => h) rfl dX4_along_5 ?_
    refine lv_goto (tgt := 27) hx hb dX4_along_8 (by decide) ?_
    exact W.iret (v := x) hx hb hr (fun tt ht _ => ⟨_, rfl, (by unfold al3; have hn3 := hn; rw [if_pos (by first | exact (nI_eq (by omega) (by omega)).mp c_1 | omega)]), ht⟩) (fun _ h => by cases h) dX4_along_27 hlk
theorem mx_side6 (l : Launch) (G : va_G) (t : Nat → ClassId) (q : Nat) (r : Nat) (x y z u v w : Int32) : Met l yX4_side (ws_ yX4_side cX4_side 5 (some .int)) (rm_ 0 0 0 0) (va_Pc [.ref q, .ref r] (mPr G t [(q, .inr (5, [.int x, .int y, .int z])), (r, .inr (5, [.int u, .int v, .int w]))])) (vp_Si (fun rv => rv = sd3 x y z u v w)) 0 0 (fun _ => False) := by
  refine mkx_W (by decide) (Nat.le_of_ble_eq_true rfl) ?_
  intro p e s m below meth c ls hx hb hml hr hlk hts hown hnm hv hl
  obtain ⟨hP, hK⟩ := hv
  have hl : lv_has ls 5 [(0, .ref q), (1, .ref r)] := hl
  refine lv_aload_n hx hb dX4_side_0 rfl (lv_at hl 0 rfl) ?_
  refine va_get (D := G) (ci := 5) (C := RX6) (T := TX6) (N := 3) hx hb hts in_X6 hown hK hP 0 rfl rfl 0 (by decide) (hts _ q134) (fun _ h => h) rfl dX4_side_1 ?_
  refine lv_aload_n hx hb dX4_side_4 rfl (lv_at hl 1 rfl) ?_
  refine va_get (D := G) (ci := 5) (C := RX6) (T := TX6) (N := 3) hx hb hts in_X6 hown hK hP 1 rfl rfl 0 (by decide) (hts _ q134) (fun _ h => h) rfl dX4_side_5 ?_
  refine lv_isub hx hb dX4_side_8 ?_
  refine lv_istore_n (lv' := [(2, .int (x - u)), (0, .ref q), (1, .ref r)]) hx hb dX4_side_9 rfl hl (by decide) rfl (fun ls hl => ?_)
  refine lv_aload_n hx hb dX4_side_10 rfl (lv_at hl 1 rfl) ?_
  refine va_get (D := G) (ci := 5) (C := RX6) (T := TX6) (N := 3) hx hb hts in_X6 hown hK hP 0 rfl rfl 1 (by decide) (hts _ q135) (fun _ h => h) rfl dX4_side_11 ?_
  refine lv_aload_n hx hb dX4_side_14 rfl (lv_at hl 2 rfl) ?_
  refine va_get (D := G) (ci := 5) (C := RX6) (T := TX6) (N := 3) hx hb hts in_X6 hown hK hP 1 rfl rfl 1 (by decide) (hts _ q135) (fun _ h => h) rfl dX4_side_15 ?_
  refine lv_isub hx hb dX4_side_18 ?_
  refine lv_istore_n (lv' := [(3, .int (y - v)), (2, .int (x - u)), (0, .ref q), (1, .ref r)]) hx hb dX4_side_19 rfl hl (by decide) rfl (fun ls hl => ?_)
  refine lv_aload_n hx hb dX4_side_20 rfl (lv_at hl 2 rfl) ?_
  refine va_get (D := G) (ci := 5) (C := RX6) (T := TX6) (N := 3) hx hb hts in_X6 hown hK hP 0 rfl rfl 2 (by decide) (hts _ q136) (fun _ h => h) rfl dX4_side_21 ?_
  refine lv_aload_n hx hb dX4_side_24 rfl (lv_at hl 3 rfl) ?_
  refine va_get (D := G) (ci := 5) (C := RX6) (T := TX6) (N := 3) hx hb hts in_X6 hown hK hP 1 rfl rfl 2 (by decide) (hts _ q136) (fun _ h => h) rfl dX4_side_25 ?_
  refine lv_isub hx hb dX4_side_28 ?_
  refine lv_istore (lv' := [(4, .int (z - w)), (3, .int (y - v)), (2, .int (x - u)), (0, .ref q), (1, .ref r)]) hx hb dX4_side_29 hl (by decide) rfl (fun ls hl => ?_)
  refine lv_iload_n hx hb dX4_side_31 rfl (lv_at hl 2 rfl) ?_
  refine lv_iload_n hx hb dX4_side_32 rfl (lv_at hl 2 rfl) ?_
  refine lv_imul hx hb dX4_side_33 ?_
  refine lv_iload_n hx hb dX4_side_34 rfl (lv_at hl 1 rfl) ?_
  refine lv_iload_n hx hb dX4_side_35 rfl (lv_at hl 1 rfl) ?_
  refine lv_imul hx hb dX4_side_36 ?_
  refine lv_iadd hx hb dX4_side_37 ?_
  refine lv_iload hx hb dX4_side_38 (lv_at hl 0 rfl) ?_
  refine lv_iload hx hb dX4_side_40 (lv_at hl 0 rfl) ?_
  refine lv_imul hx hb dX4_side_42 ?_
  refine lv_iadd hx hb dX4_side_43 ?_
  exact W.iret (v := ((((x - u) * (x - u)) + ((y - v) * (y - v))) + ((z - w) * (z - w)))) hx hb hr (fun tt ht _ => ⟨_, rfl, rfl, ht⟩) (fun _ h => by cases h) dX4_side_44 hlk
theorem mx_dot6 (l : Launch) (G : va_G) (t : Nat → ClassId) (q : Nat) (r : Nat) (x y z u v w : Int32) : Met l yX4_dot (ws_ yX4_dot cX4_dot 2 (some .int)) (rm_ 0 0 0 0) (va_Pc [.ref q, .ref r] (mPr G t [(q, .inr (5, [.int x, .int y, .int z])), (r, .inr (5, [.int u, .int v, .int w]))])) (vp_Si (fun rv => rv = dt3 x y z u v w)) 0 0 (fun _ => False) := by
  refine mkx_W (by decide) (Nat.le_of_ble_eq_true rfl) ?_
  intro p e s m below meth c ls hx hb hml hr hlk hts hown hnm hv hl
  obtain ⟨hP, hK⟩ := hv
  have hl : lv_has ls 2 [(0, .ref q), (1, .ref r)] := hl
  refine lv_aload_n hx hb dX4_dot_0 rfl (lv_at hl 0 rfl) ?_
  refine va_get (D := G) (ci := 5) (C := RX6) (T := TX6) (N := 3) hx hb hts in_X6 hown hK hP 0 rfl rfl 0 (by decide) (hts _ q134) (fun _ h => h) rfl dX4_dot_1 ?_
  refine lv_aload_n hx hb dX4_dot_4 rfl (lv_at hl 1 rfl) ?_
  refine va_get (D := G) (ci := 5) (C := RX6) (T := TX6) (N := 3) hx hb hts in_X6 hown hK hP 1 rfl rfl 0 (by decide) (hts _ q134) (fun _ h => h) rfl dX4_dot_5 ?_
  refine lv_imul hx hb dX4_dot_8 ?_
  refine lv_aload_n hx hb dX4_dot_9 rfl (lv_at hl 0 rfl) ?_
  refine va_get (D := G) (ci := 5) (C := RX6) (T := TX6) (N := 3) hx hb hts in_X6 hown hK hP 0 rfl rfl 1 (by decide) (hts _ q135) (fun _ h => h) rfl dX4_dot_10 ?_
  refine lv_aload_n hx hb dX4_dot_13 rfl (lv_at hl 1 rfl) ?_
  refine va_get (D := G) (ci := 5) (C := RX6) (T := TX6) (N := 3) hx hb hts in_X6 hown hK hP 1 rfl rfl 1 (by decide) (hts _ q135) (fun _ h => h) rfl dX4_dot_14 ?_
  refine lv_imul hx hb dX4_dot_17 ?_
  refine lv_iadd hx hb dX4_dot_18 ?_
  refine lv_aload_n hx hb dX4_dot_19 rfl (lv_at hl 0 rfl) ?_
  refine va_get (D := G) (ci := 5) (C := RX6) (T := TX6) (N := 3) hx hb hts in_X6 hown hK hP 0 rfl rfl 2 (by decide) (hts _ q136) (fun _ h => h) rfl dX4_dot_20 ?_
  refine lv_aload_n hx hb dX4_dot_23 rfl (lv_at hl 1 rfl) ?_
  refine va_get (D := G) (ci := 5) (C := RX6) (T := TX6) (N := 3) hx hb hts in_X6 hown hK hP 1 rfl rfl 2 (by decide) (hts _ q136) (fun _ h => h) rfl dX4_dot_24 ?_
  refine lv_imul hx hb dX4_dot_27 ?_
  refine lv_iadd hx hb dX4_dot_28 ?_
  exact W.iret (v := (((x * u) + (y * v)) + (z * w))) hx hb hr (fun tt ht _ => ⟨_, rfl, rfl, ht⟩) (fun _ h => by cases h) dX4_dot_29 hlk
section XBR
variable {p : Program} {l : Launch} {e : Env} {R : Room} {s : State} {m : MethodId} {args : Array Value} {below : List Frame} {meth : Method} {c : Code} {H : Heap} {locs : List Loc} {cells slots : Nat} {Q : State → Prop} {cc : ByteArray} {pc nL : Nat} {ls : Array Slot} {rest : List Value}
theorem xb_along {G : va_G} {t : Nat → ClassId} {k q b w : Nat} {f : Nat → Int32} {i : Int32} (hx : p.tables.exec = Jvm.exec) (hb : c.code = cc) (hml : c.maxLocals = nL) (hown : s.vm.findClass RX0 = some m.cls) (hts : ∀ w ∈ lw_all, w.before args s = true) (hK : va_K G vwCl (Tys t) s) (hP1 : va_P G vwCl [(q, .inr (4 + k, [.int (f (b)), .int (f (b + 1)), .int (f (b + 2))]))] H) (hk : k < 2) (hi : i = nI w) (hw : w < 3) (hls : ls.size = nL) (hR1 : 1 ≤ R.frames) (hR2 : 24 ≤ R.locals) (hrest : (rest.map fun v => v.category).sum ≤ 8) (hdg : decode cc pc = .ok (.invokevirtual 50, 3))
    (kk : W p l e R s m args below meth c H locs cells slots Q (F0 m (pc + 3) ls (.int (f (b + w)) :: rest))) (hc : cells ≤ R.cells := by exact Nat.zero_le _) (hs : slots ≤ R.slots := by exact Nat.zero_le _) : W p l e R s m args below meth c H locs cells slots Q (F0 m pc ls (.int i :: .ref q :: rest)) := by
  subst hi
  rcases (show k = 0 ∨ k = 1 by omega) with rfl | rfl
  · refine vp_callSi (xl_cr (va_runU (owner := "StarTracker$Body") (As := [.int (nI w)]) (rest := rest) ⟨hx, hb, hml, hown, hts⟩ (mx_along5 l G t q (f b) (f (b + 1)) (f (b + 2)) w hw) (va_cwU 1 hts (lw_app (a := [_, _, _, _, _]) (List.forall_mem_cons.mpr ⟨q169, List.forall_mem_cons.mpr ⟨q171, List.forall_mem_cons.mpr ⟨q173, List.forall_mem_cons.mpr ⟨q170, List.forall_mem_cons.mpr ⟨q84, fun _ h => nomatch h⟩⟩⟩⟩⟩) (lw_meth q174)) rfl rfl rfl rfl ⟨by decide, by decide, by decide +kernel⟩ ⟨hR1, Nat.le_trans (Nat.le_of_ble_eq_true rfl) hR2⟩) ⟨mPr_fb, va_recv hK hP1 (ci := 4) (q0 := 0) (q := (RX5, TX5, 3)) rfl rfl, fun U hU hW => ⟨rfl, mPr_of hP1 hK hU hW⟩⟩ rfl rfl hls rfl (by show 2 * 0 + _ ≤ 8; omega) hdg ⟨hc, hs⟩)) (fun r9 hr9 => ?_)
    subst hr9
    rw [al3_at f b hw]
    exact kk
  · refine vp_callSi (xl_cr (va_runU (owner := "StarTracker$Body") (As := [.int (nI w)]) (rest := rest) ⟨hx, hb, hml, hown, hts⟩ (mx_along6 l G t q (f b) (f (b + 1)) (f (b + 2)) w hw) (va_cwU 1 hts (lw_app (a := [_, _, _, _, _]) (List.forall_mem_cons.mpr ⟨q169, List.forall_mem_cons.mpr ⟨q171, List.forall_mem_cons.mpr ⟨q172, List.forall_mem_cons.mpr ⟨q170, List.forall_mem_cons.mpr ⟨q84, fun _ h => nomatch h⟩⟩⟩⟩⟩) (lw_meth q174)) rfl rfl rfl rfl ⟨by decide, by decide, by decide +kernel⟩ ⟨hR1, Nat.le_trans (Nat.le_of_ble_eq_true rfl) hR2⟩) ⟨mPr_fb, va_recv hK hP1 (ci := 5) (q0 := 0) (q := (RX6, TX6, 3)) rfl rfl, fun U hU hW => ⟨rfl, mPr_of hP1 hK hU hW⟩⟩ rfl rfl hls rfl (by show 2 * 0 + _ ≤ 8; omega) hdg ⟨hc, hs⟩)) (fun r9 hr9 => ?_)
    subst hr9
    rw [al3_at f b hw]
    exact kk
theorem xb_side {G : va_G} {t : Nat → ClassId} {k q r b d : Nat} {f : Nat → Int32} (hx : p.tables.exec = Jvm.exec) (hb : c.code = cc) (hml : c.maxLocals = nL) (hown : s.vm.findClass RX0 = some m.cls) (hts : ∀ w ∈ lw_all, w.before args s = true) (hK : va_K G vwCl (Tys t) s) (hP1 : va_P G vwCl [(q, .inr (4 + k, [.int (f (b)), .int (f (b + 1)), .int (f (b + 2))]))] H) (hP2 : va_P G vwCl [(r, .inr (4 + k, [.int (f (d)), .int (f (d + 1)), .int (f (d + 2))]))] H) (hk : k < 2) (hls : ls.size = nL) (hR1 : 1 ≤ R.frames) (hR2 : 24 ≤ R.locals) (hrest : (rest.map fun v => v.category).sum ≤ 8) (hdg : decode cc pc = .ok (.invokevirtual 133, 3))
    (kk : W p l e R s m args below meth c H locs cells slots Q (F0 m (pc + 3) ls (.int (sideF f b d) :: rest))) (hc : cells ≤ R.cells := by exact Nat.zero_le _) (hs : slots ≤ R.slots := by exact Nat.zero_le _) : W p l e R s m args below meth c H locs cells slots Q (F0 m pc ls (.ref r :: .ref q :: rest)) := by
  rcases (show k = 0 ∨ k = 1 by omega) with rfl | rfl
  · refine vp_callSi (xl_cr (va_runU (owner := "StarTracker$Body") (As := [.ref r]) (rest := rest) ⟨hx, hb, hml, hown, hts⟩ (mx_side5 l G t q r (f b) (f (b + 1)) (f (b + 2)) (f d) (f (d + 1)) (f (d + 2))) (va_cwU 1 hts (lw_app (a := [_, _, _, _, _]) (List.forall_mem_cons.mpr ⟨q246, List.forall_mem_cons.mpr ⟨q248, List.forall_mem_cons.mpr ⟨q250, List.forall_mem_cons.mpr ⟨q247, List.forall_mem_cons.mpr ⟨q84, fun _ h => nomatch h⟩⟩⟩⟩⟩) (lw_meth q251)) rfl rfl rfl rfl ⟨by decide, by decide, by decide +kernel⟩ ⟨hR1, Nat.le_trans (Nat.le_of_ble_eq_true rfl) hR2⟩) ⟨mPr_fb, va_recv hK hP1 (ci := 4) (q0 := 0) (q := (RX5, TX5, 3)) rfl rfl, fun U hU hW => ⟨rfl, mPr_of (hP1.app hP2) hK hU hW⟩⟩ rfl rfl hls rfl (by show 2 * 0 + _ ≤ 8; omega) hdg ⟨hc, hs⟩)) (fun r9 hr9 => ?_)
    subst hr9
    rw [sd3_at f b d]
    exact kk
  · refine vp_callSi (xl_cr (va_runU (owner := "StarTracker$Body") (As := [.ref r]) (rest := rest) ⟨hx, hb, hml, hown, hts⟩ (mx_side6 l G t q r (f b) (f (b + 1)) (f (b + 2)) (f d) (f (d + 1)) (f (d + 2))) (va_cwU 1 hts (lw_app (a := [_, _, _, _, _]) (List.forall_mem_cons.mpr ⟨q246, List.forall_mem_cons.mpr ⟨q248, List.forall_mem_cons.mpr ⟨q249, List.forall_mem_cons.mpr ⟨q247, List.forall_mem_cons.mpr ⟨q84, fun _ h => nomatch h⟩⟩⟩⟩⟩) (lw_meth q251)) rfl rfl rfl rfl ⟨by decide, by decide, by decide +kernel⟩ ⟨hR1, Nat.le_trans (Nat.le_of_ble_eq_true rfl) hR2⟩) ⟨mPr_fb, va_recv hK hP1 (ci := 5) (q0 := 0) (q := (RX6, TX6, 3)) rfl rfl, fun U hU hW => ⟨rfl, mPr_of (hP1.app hP2) hK hU hW⟩⟩ rfl rfl hls rfl (by show 2 * 0 + _ ≤ 8; omega) hdg ⟨hc, hs⟩)) (fun r9 hr9 => ?_)
    subst hr9
    rw [sd3_at f b d]
    exact kk
end XBR
