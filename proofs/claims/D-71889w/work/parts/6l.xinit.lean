/-! constructors of the tracker's small classes -/
set_option maxHeartbeats 4000000 in
theorem mx_init2 (l : Launch) (q : Nat) : Met l yX2_init (ws_ yX2_init cX2_init 1 none) (rm_ 0 1 0 0) (va_Pc [.ref q] (fun _ => True)) (va_Qv (fun (_ : Unit) => True) (fun _ _ => True) (fun _ => False)) 0 0 (fun _ => False) := by
  refine mkx_W (by decide) (Nat.le_of_ble_eq_true rfl) ?_
  intro p e s m below meth c ls hx hb hml hr hlk hts hown hnm hv hl
  have hS : va_S (fun _ => False) s.heap s.heap [] := va_S.rf
  have hl : lv_has ls 1 [(0, .ref q)] := hl
  refine lv_aload_n hx hb dX2_init_0 rfl (lv_at hl 0 rfl) ?_
  refine W.objInit hx hb hown (hts _ q622) (hts _ q132) (hts _ q133) rfl (by rw [hml]; exact hl.1) rfl dX2_init_1 (Nat.le_of_ble_eq_true rfl) (Nat.le_of_ble_eq_true rfl) ?_
  exact W.vret hx hb hr (fun tt ht _ => ⟨⟨(), rfl, trivial, trivial⟩, hS.F ht⟩) hS.2.2 dX2_init_4 hlk
set_option maxHeartbeats 4000000 in
theorem mx_init1 (l : Launch) (G : va_G) (t : Nat → ClassId) (A : Nat → Prop) (ws : va_W) (j q z : Nat) (hj : ws[j]? = some (q, .inr (1, [.null]))) : Met l yX1_init (ws_ yX1_init cX1_init 2 none) (rm_ 0 1 0 0) (va_Pc [.ref q, .ref z] (nPr G t A ws)) (va_Qv (fun (_ : Unit) => True) (mB G (fun _ => ws.set j (q, .inr (1, [.ref z])))) A) 0 0 A := by
  refine mkx_W (by decide) (Nat.le_of_ble_eq_true rfl) ?_
  intro p e s m below meth c ls hx hb hml hr hlk hts hown hnm hv hl
  obtain ⟨hP, hK, hD, hA⟩ := hv
  have hS : va_S A s.heap s.heap [] := va_S.rf
  have hl : lv_has ls 2 [(0, .ref q), (1, .ref z)] := hl
  refine lv_aload_n hx hb dX1_init_0 rfl (lv_at hl 0 rfl) ?_
  refine W.objInit hx hb hown (hts _ q594) (hts _ q132) (hts _ q133) rfl (by rw [hml]; exact hl.1) rfl dX1_init_1 (Nat.le_of_ble_eq_true rfl) (Nat.le_of_ble_eq_true rfl) ?_
  refine lv_aload_n hx hb dX1_init_4 rfl (lv_at hl 0 rfl) ?_
  refine lv_aload_n hx hb dX1_init_5 rfl (lv_at hl 1 rfl) ?_
  refine va_putF (D := G) (ci := 1) (v := .ref z) (ty := .object "StarTracker$Quarter") (C := RX1) (T := TX1) (N := 1) hx hb hts in_X1 tyX1 tyX1_ok nmX1 hown hK hP hD hS j hj rfl 0 (by decide) (hts _ q595) (fun _ h => h) rfl hnm.2 rfl (by decide +kernel) rfl rfl (Nat.le_of_ble_eq_true rfl) dX1_init_6 (fun H locs hP hD hS => ?_)
  have hP : va_P G vwCl (ws.set j (q, .inr (1, [.ref z]))) H := hP
  exact W.vret hx hb hr (fun tt ht _ => ⟨⟨(), rfl, trivial, (show va_P G vwCl (ws.set j (q, .inr (1, [.ref z]))) tt.heap from by rw [ht]; exact hP)⟩, hS.F ht⟩) hS.2.2 dX1_init_9 hlk
