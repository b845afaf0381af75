/-! calls of the lambdas -/
theorem xd_near_0 : decode xc_near 0 = .ok (.iload_n 1, 1) := by decide +kernel
theorem xd_near_1 : decode xc_near 1 = .ok (.iload_n 2, 1) := by decide +kernel
theorem xd_near_2 : decode xc_near 2 = .ok (.invokestatic 17, 3) := by decide +kernel
theorem xd_near_5 : decode xc_near 5 = .ok (.ireturn, 1) := by decide +kernel
theorem xd_fit_0 : decode xc_fit 0 = .ok (.aload_n 0, 1) := by decide +kernel
theorem xd_fit_1 : decode xc_fit 1 = .ok (.getfield 15, 3) := by decide +kernel
theorem xd_fit_4 : decode xc_fit 4 = .ok (.iload_n 1, 1) := by decide +kernel
theorem xd_fit_5 : decode xc_fit 5 = .ok (.iload_n 2, 1) := by decide +kernel
theorem xd_fit_6 : decode xc_fit 6 = .ok (.invokestatic 23, 3) := by decide +kernel
theorem xd_fit_9 : decode xc_fit 9 = .ok (.ireturn, 1) := by decide +kernel
theorem xd_dot_0 : decode xc_dot 0 = .ok (.aload_n 1, 1) := by decide +kernel
theorem xd_dot_1 : decode xc_dot 1 = .ok (.aload_n 2, 1) := by decide +kernel
theorem xd_dot_2 : decode xc_dot 2 = .ok (.invokestatic 17, 3) := by decide +kernel
theorem xd_dot_5 : decode xc_dot 5 = .ok (.lreturn, 1) := by decide +kernel
theorem xd_turn_0 : decode xc_turn 0 = .ok (.aload_n 1, 1) := by decide +kernel
theorem xd_turn_1 : decode xc_turn 1 = .ok (.invokestatic 17, 3) := by decide +kernel
theorem xd_turn_4 : decode xc_turn 4 = .ok (.return_, 1) := by decide +kernel
section XLN
variable {p : Program} {l : Launch} {e : Env} {R : Room} {s : State} {m : MethodId} {args : Array Value} {below : List Frame} {meth : Method} {c : Code} {H : Heap} {locs : List Loc} {cells slots : Nat} {Q : State → Prop} {cc : ByteArray} {pc nL : Nat} {ls : Array Slot} {rest : List Value}
/-- the reference in a made class: ready in every later state -/
theorem xl_ref {σ : Lambda.Shape} {code : ByteArray} {mL iM iC iN iS : Nat} {ret : Option FieldType} {td : String} (K : xl_Ok σ code mL iM iC iN iS ret td) {d cK : ClassId} {dk : Class} (hd : s.vm.classes[d]? = some dk) (hname : dk.name = "StarTracker") (hmade : Lambda.isMade { classPath := fun _ => none } s.vm d σ cK = true)
    {y : MethodName} {my : MethodId} (hy : y = ⟨"StarTracker", σ.implName, td⟩) (hyn : s.methodNamed? y = some my) {T : State} (hW : s.WarmedH T.vm) : Op.plainRef T e cK iM ∧ ∃ t, T.vm.methodReady cK iM t ∧ T.methodNamed? y = some t := by
  have hmade' := Lambda.isMade_warmer hW hmade
  obtain ⟨dk', hd', he⟩ := hW.alike.2.2 _ _ hd
  obtain ⟨k, tk, file, methk, ck, st, iface, t, found, hk, -, hfile, hpool, -, -, -, -, -, -, -, -, hst, htk, hlook, hready, hcls, -⟩ := xl_facts K hd' (by rw [he]; exact hname) hmade'
  obtain ⟨b, hmem⟩ := memberRef_ask' (e := e) (vm := T.vm) (d := cK) (index := iM) hk hfile (Or.inl (by rw [hpool]; exact K.2.2.2.2.1.1)) (by rw [hpool]; exact K.2.2.2.2.1.2.2)
  have hyT : T.methodNamed? y = some my := by
    have := State.methodNamed?_setVm (s := s) hW.alike y
    rw [hyn] at this
    exact this
  obtain ⟨k', hk', hn'⟩ := Vm.findClass_spec hst
  cases htk.symm.trans hk'
  have ht : t = my := by
    have h1 : T.methodFound? y.cls y.name y.desc = some my := State.methodFound?_of_named hyT (by rw [hy]; exact ⟨(by decide : "StarTracker" ≠ "java/lang/invoke/MethodHandle"), (by decide : "StarTracker" ≠ "java/lang/invoke/VarHandle")⟩)
    rw [hy] at h1
    simp only [State.methodFound?, hst, htk, Option.bind_eq_bind, Option.bind_some] at h1
    rw [hlook] at h1
    exact Option.some.inj h1
  refine ⟨⟨iC, _, _, b, st, tk, hmem, hcls, htk, ?_⟩, t, hready, by rw [ht]; exact hyT⟩
  have : ∀ y, signaturePolymorphic tk y = false := fun y => by simp [signaturePolymorphic, hn']
  simp [this]
theorem xl_fld {σ : Lambda.Shape} {iF iT iU : Nat} {ty : FieldType} (hf : (σ.file "StarTracker").isSome = true) (K : xl_OkF σ iF iT iU ty) {d cK : ClassId} {dk : Class} (hd : s.vm.classes[d]? = some dk) (hname : dk.name = "StarTracker") (hmade : Lambda.isMade { classPath := fun _ => none } s.vm d σ cK = true) (hts : ∀ w ∈ lw_all, w.before args s = true) {T : State} (hW : s.WarmedH T.vm) :
    ∃ f0 : Field, T.vm.fieldReady cK iF cK f0 ∧ f0.isStatic = false ∧ f0.slot = 0 := by
  obtain ⟨dk', hd', he⟩ := hW.alike.2.2 _ _ hd
  have hO : (Cond.instantiable "java/lang/Object" 0).before #[] T = true := pay_in hts (lw_good (fun w h => h)) _ q1317 _ T hW
  obtain ⟨k, f0, -, -, h1, h2, h3⟩ := xl_factsF hf K hd' (by rw [he]; exact hname) (Lambda.isMade_warmer hW hmade) (fun o ok ho hok => by
    obtain ⟨cO, kO, hfO, hkO, -, -, -, hsz⟩ := Cond.instantiable_spec hO
    cases hfO.symm.trans ho
    cases hkO.symm.trans hok
    exact hsz)
  exact ⟨f0, h1, h2, h3⟩
set_option maxHeartbeats 1000000 in
theorem xl_near {A : Nat → Prop} {z : Nat} {cK : ClassId} {one : Option Addr} {x y : Int32} (hx : p.tables.exec = Jvm.exec) (hb : c.code = cc) (hml : c.maxLocals = nL) (hown : s.vm.findClass RX0 = some m.cls) (hts : ∀ w ∈ lw_all, w.before args s = true) (hE : xFw xm_fits s ∧ xl_V xl_yI 58 388 xs_near cK one s) (hC : xl_C z cK [] A H) (hls : ls.size = nL) (hdg : decode cc pc = .ok (.invokeinterface 151 3, 5)) (hR1 : 2 ≤ R.frames) (hR2 : 70 ≤ R.locals) (hrest : (rest.map fun v => v.category).sum ≤ 8)
    (kk : W p l e R s m args below meth c H locs cells slots Q (F0 m (pc + 5) ls (.int (b2i (nrP x y)) :: rest))) (hc : cells ≤ R.cells := by exact Nat.zero_le _) (hs : slots ≤ R.slots := by exact Nat.zero_le _) : W p l e R s m args below meth c H locs cells slots Q (F0 m pc ls (.int y :: .int x :: .ref z :: rest)) := by
  obtain ⟨⟨hd1, hd2⟩, ⟨mI, kS, cf, i0, p0, lk, hmI, hkS, hcf, hsh, hfind, hmade, hcan, -⟩⟩ := hE
  obtain ⟨kS', hkS', hnS⟩ := className_of_methodNamed hmI
  cases hkS.symm.trans hkS'
  obtain ⟨kK, tk, file, methk, ck, st, iface, tg9, found, hkK, hkn, hfile, hpool, hkind, hmk, hck, hcode, hml2, hlk, hfl, hret, hst, htk, hlook, hready, hclsR, hif, hfd, hsel⟩ := xl_facts xo_near hkS hnS hmade
  obtain ⟨my, hmy⟩ := Cond.code_named (hts _ q605)
  refine va_csFi (post := fun r => r = b2i (nrP x y)) (a := (Value.ref z :: [Value.int x, Value.int y]).toArray) (xl_runF (n := 2) (As := [.int x, .int y]) (R' := rm_ 0 1 0 0) (σ := xs_near) (Qc := vp_Si (fun r => r = b2i (nrP x y))) (free := fun _ => False) hx hb hml hown (hts _ q298) hd1 hd2 ⟨by decide, by decide, by decide +kernel⟩ ⟨rfl, rfl, by decide +kernel⟩ hif hfd hsel hcan hkK hkn hmk hck hlk hfl hC.1 ?_ rfl rfl hls rfl (by show 2 * 0 + _ ≤ 8; omega) hdg ⟨hR1, by rw [hml2]; exact hR2, by show cells + 0 ≤ _; omega, by show slots + 0 ≤ _; omega⟩) (fun r hr => by subst hr; exact kk)
  intro sI g' hH hWI
  rw [hml2]
  refine xl_entry (av := [.ref z, .int x, .int y]) (Nat.le_of_ble_eq_true rfl) (fun ls2 hl => ?_)
  have hl : lv_has ls2 3 [(0, .ref z), (1, .int x), (2, .int y)] := hl
  have htsI : ∀ w ∈ lw_all, w.before (Value.ref z :: [Value.int x, Value.int y]).toArray sI = true := fun w h => pay_in hts (lw_good (fun w h => h)) w h _ sI hWI
  refine lv_iload_n hx hcode xd_near_0 rfl (lv_at hl 1 rfl) ?_
  refine lv_iload_n hx hcode xd_near_1 rfl (lv_at hl 2 rfl) ?_
  refine vp_callSi (xl_cr (xl_runS (n := 2) (As := [.int x, .int y]) (rest := []) hx hcode hml2 htsI (mx_near l x y) q605 q604 q80 ⟨by decide, by decide, by decide +kernel⟩ rfl rfl ⟨Nat.le_of_ble_eq_true rfl, Nat.le_of_ble_eq_true rfl⟩ (fun T hT => xl_ref xo_near hkS hnS hmade rfl hmy (State.WarmedH.trans hWI hT)) ⟨pT_fb, fun U hU hW => ⟨rfl, trivial⟩⟩ rfl rfl hl.1 rfl (Nat.le_of_ble_eq_true rfl) xd_near_2 ⟨Nat.le_of_ble_eq_true rfl, Nat.le_of_ble_eq_true rfl⟩)) (fun r hr => ?_)
  subst hr
  exact W.zret hx hcode hret b2i_nz (fun tt ht _ => ⟨_, rfl, rfl, ht.trans hH.symm⟩) (fun _ h => by cases h) xd_near_5 hlk
set_option maxHeartbeats 1000000 in
theorem xl_fit {A : Nat → Prop} {z : Nat} {cK : ClassId} {one : Option Addr} {tol x y : Int32} (hx : p.tables.exec = Jvm.exec) (hb : c.code = cc) (hml : c.maxLocals = nL) (hown : s.vm.findClass RX0 = some m.cls) (hts : ∀ w ∈ lw_all, w.before args s = true) (hE : xFw xm_fits s ∧ xl_V xl_yV 1 188 xs_fit cK one s) (hC : xl_C z cK [.int tol] A H) (hls : ls.size = nL) (hdg : decode cc pc = .ok (.invokeinterface 151 3, 5)) (hR1 : 3 ≤ R.frames) (hR2 : 118 ≤ R.locals) (hrest : (rest.map fun v => v.category).sum ≤ 8)
    (kk : W p l e R s m args below meth c H locs cells slots Q (F0 m (pc + 5) ls (.int (b2i (fitP tol x y)) :: rest))) (hc : cells ≤ R.cells := by exact Nat.zero_le _) (hs : slots ≤ R.slots := by exact Nat.zero_le _) : W p l e R s m args below meth c H locs cells slots Q (F0 m pc ls (.int y :: .int x :: .ref z :: rest)) := by
  obtain ⟨⟨hd1, hd2⟩, ⟨mI, kS, cf, i0, p0, lk, hmI, hkS, hcf, hsh, hfind, hmade, hcan, -⟩⟩ := hE
  obtain ⟨kS', hkS', hnS⟩ := className_of_methodNamed hmI
  cases hkS.symm.trans hkS'
  obtain ⟨kK, tk, file, methk, ck, st, iface, tg9, found, hkK, hkn, hfile, hpool, hkind, hmk, hck, hcode, hml2, hlk, hfl, hret, hst, htk, hlook, hready, hclsR, hif, hfd, hsel⟩ := xl_facts xo_fit hkS hnS hmade
  obtain ⟨my, hmy⟩ := Cond.code_named (hts _ q286)
  refine va_csFi (post := fun r => r = b2i (fitP tol x y)) (a := (Value.ref z :: [Value.int x, Value.int y]).toArray) (xl_runF (n := 2) (As := [.int x, .int y]) (R' := rm_ 0 2 0 0) (σ := xs_fit) (Qc := vp_Si (fun r => r = b2i (fitP tol x y))) (free := fun _ => False) hx hb hml hown (hts _ q298) hd1 hd2 ⟨by decide, by decide, by decide +kernel⟩ ⟨rfl, rfl, by decide +kernel⟩ hif hfd hsel hcan hkK hkn hmk hck hlk hfl hC.1 ?_ rfl rfl hls rfl (by show 2 * 0 + _ ≤ 8; omega) hdg ⟨hR1, by rw [hml2]; exact hR2, by show cells + 0 ≤ _; omega, by show slots + 0 ≤ _; omega⟩) (fun r hr => by subst hr; exact kk)
  intro sI g' hH hWI
  rw [hml2]
  refine xl_entry (av := [.ref z, .int x, .int y]) (Nat.le_of_ble_eq_true rfl) (fun ls2 hl => ?_)
  have hl : lv_has ls2 3 [(0, .ref z), (1, .int x), (2, .int y)] := hl
  have htsI : ∀ w ∈ lw_all, w.before (Value.ref z :: [Value.int x, Value.int y]).toArray sI = true := fun w h => pay_in hts (lw_good (fun w h => h)) w h _ sI hWI
  refine lv_aload_n hx hcode xd_fit_0 rfl (lv_at hl 0 rfl) ?_
  refine xl_getf hx hcode (fun T hT => xl_fld xo_fit.1 xo_fitF hkS hnS hmade hts (State.WarmedH.trans hWI hT)) hC.1 (fun q => by cases q) (v := .int tol) rfl xd_fit_1 ?_
  refine lv_iload_n hx hcode xd_fit_4 rfl (lv_at hl 1 rfl) ?_
  refine lv_iload_n hx hcode xd_fit_5 rfl (lv_at hl 2 rfl) ?_
  refine vp_callSi (xl_cr (xl_runS (n := 3) (As := [.int tol, .int x, .int y]) (rest := []) hx hcode hml2 htsI (mx_fit l tol x y) q286 q285 q80 ⟨by decide, by decide, by decide +kernel⟩ rfl rfl ⟨Nat.le_of_ble_eq_true rfl, Nat.le_of_ble_eq_true rfl⟩ (fun T hT => xl_ref xo_fit hkS hnS hmade rfl hmy (State.WarmedH.trans hWI hT)) ⟨pT_fb, fun U hU hW => ⟨rfl, trivial⟩⟩ rfl rfl hl.1 rfl (Nat.le_of_ble_eq_true rfl) xd_fit_6 ⟨Nat.le_of_ble_eq_true rfl, Nat.le_of_ble_eq_true rfl⟩)) (fun r hr => ?_)
  subst hr
  exact W.zret hx hcode hret b2i_nz (fun tt ht _ => ⟨_, rfl, rfl, ht.trans hH.symm⟩) (fun _ h => by cases h) xd_fit_9 hlk
end XLN
/-- the product of three and three -/
def dotL (f g : Nat → Int64) : Int64 := f 0 * g 0 + f 1 * g 1 + f 2 * g 2
theorem mx_dot (l : Launch) (G : va_G) (t : Nat → ClassId) (u v : Nat) (f g : Nat → Int64) : Met l yX0_lambda_new_1 (ws_ yX0_lambda_new_1 cX0_lambda_new_1 2 (some .long)) (rm_ 0 0 0 0) (va_Pc [.ref u, .ref v] (mPr G t [(u, .inl (t 1, 3, .inr (.inl f))), (v, .inl (t 1, 3, .inr (.inl g)))])) (vp_Sl (fun rv => rv = dotL f g)) 0 0 (fun _ => False) := by
  refine mkx_W (by decide) (Nat.le_of_ble_eq_true rfl) ?_
  intro p e s m below meth c ls hx hb hml hr hlk hts hown hnm hv hl
  obtain ⟨hP, hK⟩ := hv
  have hl : lv_has ls 2 [(0, .ref u), (1, .ref v)] := hl
  refine lv_aload_n hx hb dX0_lambda_new_1_0 rfl (lv_at hl 0 rfl) ?_
  refine lv_iconst (v := 0) hx hb dX0_lambda_new_1_1 (by decide) ?_
  refine r_lald hx hb hK hP 0 1 rfl rfl 0 (nI_q 0) (by decide) (by decide) dX0_lambda_new_1_2 ?_
  refine lv_aload_n hx hb dX0_lambda_new_1_3 rfl (lv_at hl 1 rfl) ?_
  refine lv_iconst (v := 0) hx hb dX0_lambda_new_1_4 (by decide) ?_
  refine r_lald hx hb hK hP 1 1 rfl rfl 0 (nI_q 0) (by decide) (by decide) dX0_lambda_new_1_5 ?_
  refine lv_lmul hx hb dX0_lambda_new_1_6 ?_
  refine lv_aload_n hx hb dX0_lambda_new_1_7 rfl (lv_at hl 0 rfl) ?_
  refine lv_iconst (v := 1) hx hb dX0_lambda_new_1_8 (by decide) ?_
  refine r_lald hx hb hK hP 0 1 rfl rfl 1 (nI_q 1) (by decide) (by decide) dX0_lambda_new_1_9 ?_
  refine lv_aload_n hx hb dX0_lambda_new_1_10 rfl (lv_at hl 1 rfl) ?_
  refine lv_iconst (v := 1) hx hb dX0_lambda_new_1_11 (by decide) ?_
  refine r_lald hx hb hK hP 1 1 rfl rfl 1 (nI_q 1) (by decide) (by decide) dX0_lambda_new_1_12 ?_
  refine lv_lmul hx hb dX0_lambda_new_1_13 ?_
  refine lv_ladd hx hb dX0_lambda_new_1_14 ?_
  refine lv_aload_n hx hb dX0_lambda_new_1_15 rfl (lv_at hl 0 rfl) ?_
  refine lv_iconst (v := 2) hx hb dX0_lambda_new_1_16 (by decide) ?_
  refine r_lald hx hb hK hP 0 1 rfl rfl 2 (nI_q 2) (by decide) (by decide) dX0_lambda_new_1_17 ?_
  refine lv_aload_n hx hb dX0_lambda_new_1_18 rfl (lv_at hl 1 rfl) ?_
  refine lv_iconst (v := 2) hx hb dX0_lambda_new_1_19 (by decide) ?_
  refine r_lald hx hb hK hP 1 1 rfl rfl 2 (nI_q 2) (by decide) (by decide) dX0_lambda_new_1_20 ?_
  refine lv_lmul hx hb dX0_lambda_new_1_21 ?_
  refine lv_ladd hx hb dX0_lambda_new_1_22 ?_
  exact W.lret (v := ((((f 0) * (g 0)) + ((f 1) * (g 1))) + ((f 2) * (g 2)))) hx hb hr (fun tt ht _ => ⟨_, rfl, rfl, ht⟩) (fun _ h => by cases h) dX0_lambda_new_1_23 hlk
section XLD
variable {p : Program} {l : Launch} {e : Env} {R : Room} {s : State} {m : MethodId} {args : Array Value} {below : List Frame} {meth : Method} {c : Code} {H : Heap} {locs : List Loc} {cells slots : Nat} {Q : State → Prop} {cc : ByteArray} {pc nL : Nat} {ls : Array Slot} {rest : List Value}
set_option maxHeartbeats 1000000 in
theorem xl_dot {G : va_G} {t : Nat → ClassId} {A : Nat → Prop} {z : Nat} {cK : ClassId} {one : Option Addr} {u v : Nat} {f g : Nat → Int64} (hx : p.tables.exec = Jvm.exec) (hb : c.code = cc) (hml : c.maxLocals = nL) (hown : s.vm.findClass RX0 = some m.cls) (hts : ∀ w ∈ lw_all, w.before args s = true) (hK : va_K G vwCl (Tys t) s) (hP : va_P G vwCl [(u, .inl (t 1, 3, .inr (.inl f))), (v, .inl (t 1, 3, .inr (.inl g)))] H) (hE : xFw xm_of s ∧ xl_V xl_yI 67 391 xs_dot cK one s) (hC : xl_C z cK [] A H) (hls : ls.size = nL) (hdg : decode cc pc = .ok (.invokeinterface 233 3, 5)) (hR1 : 2 ≤ R.frames) (hR2 : 70 ≤ R.locals) (hrest : (rest.map fun v => v.category).sum ≤ 8)
    (kk : W p l e R s m args below meth c H locs cells slots Q (F0 m (pc + 5) ls (.long (dotL f g) :: rest))) (hc : cells ≤ R.cells := by exact Nat.zero_le _) (hs : slots ≤ R.slots := by exact Nat.zero_le _) : W p l e R s m args below meth c H locs cells slots Q (F0 m pc ls (.ref v :: .ref u :: .ref z :: rest)) := by
  obtain ⟨⟨hd1, hd2⟩, ⟨mI, kS, cf, i0, p0, lk, hmI, hkS, hcf, hsh, hfind, hmade, hcan, -⟩⟩ := hE
  obtain ⟨kS', hkS', hnS⟩ := className_of_methodNamed hmI
  cases hkS.symm.trans hkS'
  obtain ⟨kK, tk, file, methk, ck, st, iface, tg9, found, hkK, hkn, hfile, hpool, hkind, hmk, hck, hcode, hml2, hlk, hfl, hret, hst, htk, hlook, hready, hclsR, hif, hfd, hsel⟩ := xl_facts xo_dot hkS hnS hmade
  obtain ⟨my, hmy⟩ := Cond.code_named (hts _ q607)
  refine va_csFl (post := fun r => r = dotL f g) (a := (Value.ref z :: [Value.ref u, Value.ref v]).toArray) (xl_runF (n := 2) (As := [.ref u, .ref v]) (R' := rm_ 0 1 0 0) (σ := xs_dot) (Qc := vp_Sl (fun r => r = dotL f g)) (free := fun _ => False) hx hb hml hown (hts _ q336) hd1 hd2 ⟨by decide, by decide, by decide +kernel⟩ ⟨rfl, rfl, by decide +kernel⟩ hif hfd hsel hcan hkK hkn hmk hck hlk hfl hC.1 ?_ rfl rfl hls rfl (by show 2 * 0 + _ ≤ 8; omega) hdg ⟨hR1, by rw [hml2]; exact hR2, by show cells + 0 ≤ _; omega, by show slots + 0 ≤ _; omega⟩) (fun r hr => by subst hr; exact kk)
  intro sI g' hH hWI
  rw [hml2]
  refine xl_entry (av := [.ref z, .ref u, .ref v]) (Nat.le_of_ble_eq_true rfl) (fun ls2 hl => ?_)
  have hl : lv_has ls2 3 [(0, .ref z), (1, .ref u), (2, .ref v)] := hl
  have htsI : ∀ w ∈ lw_all, w.before (Value.ref z :: [Value.ref u, Value.ref v]).toArray sI = true := fun w h => pay_in hts (lw_good (fun w h => h)) w h _ sI hWI
  refine lv_aload_n hx hcode xd_dot_0 rfl (lv_at hl 1 rfl) ?_
  refine lv_aload_n hx hcode xd_dot_1 rfl (lv_at hl 2 rfl) ?_
  refine vp_callSl (xl_cr (xl_runS (n := 2) (As := [.ref u, .ref v]) (rest := []) hx hcode hml2 htsI (mx_dot l G t u v f g) q607 q606 q80 ⟨by decide, by decide, by decide +kernel⟩ rfl rfl ⟨Nat.le_of_ble_eq_true rfl, Nat.le_of_ble_eq_true rfl⟩ (fun T hT => xl_ref xo_dot hkS hnS hmade rfl hmy (State.WarmedH.trans hWI hT)) ⟨mPr_fb, fun U hU hW => ⟨rfl, mPr_of hP (va_K.moved hWI.alike hK) hU hW⟩⟩ rfl rfl hl.1 rfl (Nat.le_of_ble_eq_true rfl) xd_dot_2 ⟨Nat.le_of_ble_eq_true rfl, Nat.le_of_ble_eq_true rfl⟩)) (fun r hr => ?_)
  subst hr
  exact W.lret hx hcode hret (fun tt ht _ => ⟨_, rfl, rfl, ht.trans hH.symm⟩) (fun _ h => by cases h) xd_dot_5 hlk
end XLD
