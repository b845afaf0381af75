/-! the tracker: starts, what rides, rows -/
/-- a contract's start in one step, with the method's own name -/
theorem mkx_W {l : Launch} {y : MethodName} {cc : ByteArray} {n : Nat} {ret : Option FieldType} {R : Room} {av : List Value} {Pre : State → Prop} {Qc : Array Value → State → Outcome → State → Prop} {mc ms : Nat} {free : Addr → Prop} (hy : plainName y.cls = true) (hn : (lg_sl av).length ≤ n)
    (body : ∀ (p : Program) (e : Env) (s : State) (m : MethodId) (below : List Frame) (meth : Method) (c : Code) (ls : Array Slot), p.tables.exec = Jvm.exec → c.code = cc → c.maxLocals = n → meth.sig.returnType = ret → meth.locks = false → (∀ w ∈ lw_all, w.before av.toArray s = true) → s.vm.findClass y.cls = some m.cls → s.methodNamed? y = some m ∧ meth.name = y.name → Pre s → lv_has ls n (lv_args 0 av) →
      W p l e R s m av.toArray below meth c s.heap [] 0 0 (MQ below Qc av.toArray s mc ms free) (F0 m 0 ls [])) : Met l y (ws_ y cc n ret) R (va_Pc av Pre) Qc mc ms free := by
  refine Met.ofW (cc := cc) (maxL := n) (ret := ret) hy rfl ?_
  intro p e s m args below meth c s₁ B hml hv
  obtain ⟨rfl, hv⟩ := hv
  have hts := atoms_spec (ws := ws_ y cc n ret) B.pre
  have hl := lv_entry av (n := n) hn
  rw [lg_entry_eq]
  exact body p e s m below meth c _ B.exec B.bytes hml B.returns B.notSynchronized (fun w h => hts w (List.mem_cons_of_mem _ h)) (findClass_of_methodNamed B.named) ⟨B.named, (name_of_methodNamed B.named B.method).1⟩ hv hl
/-- a contract's start in one step, of a class of the JDK's -/
theorem mkf_W {l : Launch} {y : MethodName} {cc : ByteArray} {n : Nat} {ret : Option FieldType} {R : Room} {av : List Value} {Pre : State → Prop} {Qc : Array Value → State → Outcome → State → Prop} {mc ms : Nat} {free : Addr → Prop} (hy : plainFor y = true) (hn : (lg_sl av).length ≤ n)
    (body : ∀ (p : Program) (e : Env) (s : State) (m : MethodId) (below : List Frame) (meth : Method) (c : Code) (ls : Array Slot), p.tables.exec = Jvm.exec → c.code = cc → c.maxLocals = n → meth.sig.returnType = ret → meth.locks = false → (∀ w ∈ lw_all, w.before av.toArray s = true) → s.vm.findClass y.cls = some m.cls → s.methodNamed? y = some m ∧ meth.name = y.name → Pre s → lv_has ls n (lv_args 0 av) →
      W p l e R s m av.toArray below meth c s.heap [] 0 0 (MQ below Qc av.toArray s mc ms free) (F0 m 0 ls [])) : Met l y (ws_ y cc n ret) R (va_Pc av Pre) Qc mc ms free := by
  refine va_MetF (cc := cc) (maxL := n) (ret := ret) hy rfl ?_
  intro p e s m args below meth c s₁ B hml hv
  obtain ⟨rfl, hv⟩ := hv
  have hts := atoms_spec (ws := ws_ y cc n ret) B.pre
  have hl := lv_entry av (n := n) hn
  rw [lg_entry_eq]
  exact body p e s m below meth c _ B.exec B.bytes hml B.returns B.notSynchronized (fun w h => hts w (List.mem_cons_of_mem _ h)) (findClass_of_methodNamed B.named) ⟨B.named, (name_of_methodNamed B.named B.method).1⟩ hv hl
/-! lambdas: their shapes -/
def xs_fit : Lambda.Shape := { iface := "StarTracker$Fit", name := "fits", sam := ⟨[.int, .int], some .boolean⟩, captured := [.int], kind := 6, implClass := "StarTracker", implName := "lambda$votesBy$2", implDesc := ⟨[.int, .int, .int], some .boolean⟩, implItf := false, inst := ⟨[.int, .int], some .boolean⟩ }
def xs_turn (n : String) : Lambda.Shape := { iface := "StarTracker$Quarter", name := "turns", sam := ⟨[.array .int], none⟩, captured := [], kind := 6, implClass := "StarTracker", implName := n, implDesc := ⟨[.array .int], none⟩, implItf := false, inst := ⟨[.array .int], none⟩ }
def xs_near : Lambda.Shape := { iface := "StarTracker$Fit", name := "fits", sam := ⟨[.int, .int], some .boolean⟩, captured := [], kind := 6, implClass := "StarTracker", implName := "lambda$new$0", implDesc := ⟨[.int, .int], some .boolean⟩, implItf := false, inst := ⟨[.int, .int], some .boolean⟩ }
def xs_dot : Lambda.Shape := { iface := "StarTracker$Product", name := "of", sam := ⟨[.array .long, .array .long], some .long⟩, captured := [], kind := 6, implClass := "StarTracker", implName := "lambda$new$1", implDesc := ⟨[.array .long, .array .long], some .long⟩, implItf := false, inst := ⟨[.array .long, .array .long], some .long⟩ }
def xc_fit : ByteArray := ⟨#[0x2a, 0xb4, 0x00, 0x0f, 0x1b, 0x1c, 0xb8, 0x00, 0x17, 0xac]⟩
def xc_turn : ByteArray := ⟨#[0x2b, 0xb8, 0x00, 0x11, 0xb1]⟩
def xc_near : ByteArray := ⟨#[0x1b, 0x1c, 0xb8, 0x00, 0x11, 0xac]⟩
def xc_dot : ByteArray := ⟨#[0x2b, 0x2c, 0xb8, 0x00, 0x11, 0xad]⟩
theorem xo_fit : xl_Ok xs_fit xc_fit 3 23 19 22 18 (some .boolean) "(III)Z" := by unfold xl_Ok; decide +kernel
theorem xo_fitF : xl_OkF xs_fit 15 2 14 .int := by unfold xl_OkF; decide +kernel
theorem xo_near : xl_Ok xs_near xc_near 3 17 14 16 13 (some .boolean) "(II)Z" := by unfold xl_Ok; decide +kernel
theorem xo_dot : xl_Ok xs_dot xc_dot 3 17 14 16 13 (some .long) "([J[J)J" := by unfold xl_Ok; decide +kernel
theorem xo_turnX : xl_Ok (xs_turn "aroundX") xc_turn 2 17 14 16 13 none "([I)V" := by unfold xl_Ok; decide +kernel
theorem xo_turnY : xl_Ok (xs_turn "aroundY") xc_turn 2 17 14 16 13 none "([I)V" := by unfold xl_Ok; decide +kernel
theorem xo_turnZ : xl_Ok (xs_turn "aroundZ") xc_turn 2 17 14 16 13 none "([I)V" := by unfold xl_Ok; decide +kernel
abbrev xl_yI : MethodName := ⟨"StarTracker", "<init>", "()V"⟩
abbrev xl_yV : MethodName := ⟨"StarTracker", "votesBy", "(I)V"⟩
abbrev xm_fits : MethodName := ⟨"StarTracker$Fit", "fits", "(II)Z"⟩
abbrev xm_turns : MethodName := ⟨"StarTracker$Quarter", "turns", "([I)V"⟩
abbrev xm_of : MethodName := ⟨"StarTracker$Product", "of", "([J[J)J"⟩
/-- an interface's words -/
def xFw (x : MethodName) (U : State) : Prop := (Cond.declares x).before #[] U = true ∧ (Cond.interfaceMethod x.cls x.cls x.name x.desc).before #[] U = true
theorem xFw.of {x : MethodName} {U : State} {B : Array Value} (h1 : (Cond.declares x).before B U = true) (h2 : (Cond.interfaceMethod x.cls x.cls x.name x.desc).before B U = true) : xFw x U := ⟨va_any rfl h1, va_any rfl h2⟩
theorem xFw.moved {x : MethodName} (hx : x.cls ≠ "java/lang/invoke/MethodHandle" ∧ x.cls ≠ "java/lang/invoke/VarHandle") {u U : State} (hvm : u.vm.Alike U.vm) (h : xFw x u) : xFw x U := by
  obtain ⟨h1, h2⟩ := h
  obtain ⟨r, meth, hn, -⟩ := Cond.declares_spec h1
  have tr : ∀ {c : Cond}, c.onTables = true → c.before #[] (u.setVm U.vm) = true → c.before #[] U = true := by
    intro c hc h
    have e := Cond.onTables_vm (A := #[]) (A' := #[]) (U := u) (U' := U) U.vm c hc
    have hU : U.setVm U.vm = U := rfl
    rw [hU] at e
    rw [← e]
    exact h
  exact ⟨tr rfl (by rw [Cond.declares_setVm hvm]; exact h1), tr rfl (by rw [Cond.interfaceMethod_setVm hvm (r := r) hn hx]; exact h2)⟩
/-! words that don't ride in the lists: the tracker takes them along -/
def xNk : Cond → Bool
  | .declares _ => true
  | .castable _ _ => true
  | .methodLinkNest _ _ _ _ => true
  | .fieldLinkNest _ _ _ _ _ _ => true
  | .not (.castable _ _) => true
  | _ => false
def xNl : List Cond := [.castable "[LStarTracker$Spot;" "[LStarTracker$Body;", .castable "[LStarTracker$Star;" "[LStarTracker$Body;", .not (.castable "[I" "[B"), .not (.castable "[S" "[B"), .not (.castable "[I" "[S"), .not (.castable "[B" "[S"), .not (.castable "[B" "[I"), .not (.castable "[S" "[I"), .not (.castable "StarTracker$Spot" "StarTracker$Star"), .not (.castable "StarTracker$Star" "StarTracker$Spot"), .not (.castable "StarTracker$Body" "StarTracker$Star"), .not (.castable "StarTracker$Body" "StarTracker$Spot"), .not (.castable "java/lang/NegativeArraySizeException" "java/lang/ArrayStoreException"), .not (.castable "java/lang/NullPointerException" "java/lang/ArrayStoreException"), .not (.castable "java/lang/ClassCastException" "java/lang/ArrayStoreException"), .not (.castable "java/lang/ArrayIndexOutOfBoundsException" "java/lang/ArrayStoreException"), .not (.castable "java/lang/ArrayStoreException" "java/lang/NegativeArraySizeException"), .not (.castable "java/lang/NullPointerException" "java/lang/NegativeArraySizeException"), .not (.castable "java/lang/ClassCastException" "java/lang/NegativeArraySizeException"), .not (.castable "java/lang/ArrayIndexOutOfBoundsException" "java/lang/NegativeArraySizeException"), .not (.castable "java/lang/ArrayStoreException" "java/lang/NullPointerException"), .not (.castable "java/lang/NegativeArraySizeException" "java/lang/NullPointerException"), .not (.castable "java/lang/ClassCastException" "java/lang/NullPointerException"), .not (.castable "java/lang/ArrayIndexOutOfBoundsException" "java/lang/NullPointerException"), .not (.castable "java/lang/ArrayStoreException" "java/lang/ClassCastException"), .not (.castable "java/lang/NegativeArraySizeException" "java/lang/ClassCastException"), .not (.castable "java/lang/NullPointerException" "java/lang/ClassCastException"), .not (.castable "java/lang/ArrayIndexOutOfBoundsException" "java/lang/ClassCastException"), .not (.castable "java/lang/ArrayStoreException" "java/lang/ArrayIndexOutOfBoundsException"), .not (.castable "java/lang/NegativeArraySizeException" "java/lang/ArrayIndexOutOfBoundsException"), .not (.castable "java/lang/NullPointerException" "java/lang/ArrayIndexOutOfBoundsException"), .not (.castable "java/lang/ClassCastException" "java/lang/ArrayIndexOutOfBoundsException"), .not (.castable "java/lang/ArrayStoreException" "java/lang/IndexOutOfBoundsException"), .not (.castable "java/lang/NegativeArraySizeException" "java/lang/IndexOutOfBoundsException"), .not (.castable "java/lang/NullPointerException" "java/lang/IndexOutOfBoundsException"), .not (.castable "java/lang/ClassCastException" "java/lang/IndexOutOfBoundsException")]
def xNw (U : State) : Prop := ∀ w, xNk w = true → (w ∈ lw_tbl ∨ w ∈ xNl) → va_Nw w U
theorem va_Nw.warmNC {C T : String} {s U : State} (hW : s.WarmedH U.vm) (hZ : va_Nw (.not (.castable C T)) s) : va_Nw (.not (.castable C T)) U := by
  unfold va_Nw at hZ ⊢
  simp only [Cond.before, Cond.holds, Cond.value, hW.alike.findClass, hW.alike.assignable] at hZ ⊢
  exact hZ
theorem xNw.warm {s U : State} (h : xNw s) (hW : s.WarmedH U.vm) : xNw U := by
  intro w hk hm
  have hz := h w hk hm
  match w, hk, hz with
  | .declares _, _, hz => exact va_Nw.warmD hW hz
  | .castable _ _, _, hz => exact va_Nw.warmC hW hz
  | .methodLinkNest _ _ _ _, _, hz => exact va_Nw.warmM hW hz
  | .fieldLinkNest _ _ _ _ _ _, _, hz => exact va_Nw.warmF hW hz
  | .not (.castable _ _), _, hz => exact va_Nw.warmNC hW hz
/-- what rides with the tracker: its sites, the interfaces; at the heap H their objects -/
def xEv (a : Nat → Nat) (cs : Nat → ClassId) (U : State) : Prop :=
  (xl_V xl_yV 1 188 xs_fit (cs 0) none U ∧ xl_V xl_yI 15 380 (xs_turn "aroundX") (cs 1) (some (a 60)) U ∧ xl_V xl_yI 30 386 (xs_turn "aroundY") (cs 2) (some (a 61)) U ∧ xl_V xl_yI 45 387 (xs_turn "aroundZ") (cs 3) (some (a 62)) U ∧ xl_V xl_yI 58 388 xs_near (cs 4) (some (a 63)) U ∧ xl_V xl_yI 67 391 xs_dot (cs 5) (some (a 64)) U) ∧ xFw xm_fits U ∧ xFw xm_turns U ∧ xFw xm_of U ∧ xNw U
def xEh (A : Nat → Prop) (a : Nat → Nat) (cs : Nat → ClassId) (H : Heap) : Prop := xl_C (a 60) (cs 1) [] A H ∧ xl_C (a 61) (cs 2) [] A H ∧ xl_C (a 62) (cs 3) [] A H ∧ xl_C (a 63) (cs 4) [] A H ∧ xl_C (a 64) (cs 5) [] A H
def xE (A : Nat → Prop) (a : Nat → Nat) (cs : Nat → ClassId) (U : State) (H : Heap) : Prop := xEv a cs U ∧ xEh A a cs H
theorem xEv.warm {a : Nat → Nat} {cs : Nat → ClassId} {s U : State} (h : xEv a cs s) (hW : s.WarmedH U.vm) : xEv a cs U := by
  obtain ⟨⟨v1, v2, v3, v4, v5, v6⟩, f1, f2, f3, n⟩ := h
  exact ⟨⟨v1.warm hW, v2.warm hW, v3.warm hW, v4.warm hW, v5.warm hW, v6.warm hW⟩, f1.moved ⟨by decide, by decide⟩ hW.alike, f2.moved ⟨by decide, by decide⟩ hW.alike, f3.moved ⟨by decide, by decide⟩ hW.alike, n.warm hW⟩
theorem xEh.kept {A : Nat → Prop} {a : Nat → Nat} {cs : Nat → ClassId} {H0 H : Heap} {locs : List Loc} (h : xEh A a cs H0) (hS : va_S A H0 H locs) : xEh A a cs H := ⟨h.1.kept hS, h.2.1.kept hS, h.2.2.1.kept hS, h.2.2.2.1.kept hS, h.2.2.2.2.kept hS⟩
theorem xE.warm {A : Nat → Prop} {a : Nat → Nat} {cs : Nat → ClassId} {s U : State} {H0 H : Heap} {locs : List Loc} (h : xE A a cs s H0) (hW : s.WarmedH U.vm) (hS : va_S A H0 H locs) : xE A a cs U H := ⟨h.1.warm hW, h.2.kept hS⟩
theorem xE.narrow {A B : Nat → Prop} {a : Nat → Nat} {cs : Nat → ClassId} {s : State} {H0 : Heap} (h : xE A a cs s H0) (hB : ∀ q, B q → A q) : xE B a cs s H0 := by
  obtain ⟨v, c1, c2, c3, c4, c5⟩ := h
  exact ⟨v, ⟨c1.1, fun q => c1.2 (hB _ q)⟩, ⟨c2.1, fun q => c2.2 (hB _ q)⟩, ⟨c3.1, fun q => c3.2 (hB _ q)⟩, ⟨c4.1, fun q => c4.2 (hB _ q)⟩, ⟨c5.1, fun q => c5.2 (hB _ q)⟩⟩
theorem xE.near {A : Nat → Prop} {a : Nat → Nat} {cs : Nat → ClassId} {s : State} {H0 : Heap} (h : xE A a cs s H0) : xl_C (a 63) (cs 4) [] A H0 := h.2.2.2.2.1
theorem xE.dot {A : Nat → Prop} {a : Nat → Nat} {cs : Nat → ClassId} {s : State} {H0 : Heap} (h : xE A a cs s H0) : xl_C (a 64) (cs 5) [] A H0 := h.2.2.2.2.2
theorem xE_near {A : Nat → Prop} {a : Nat → Nat} {cs : Nat → ClassId} {s : State} {H0 : Heap} (h : xE A a cs s H0) : xFw xm_fits s ∧ xl_V xl_yI 58 388 xs_near (cs 4) (some (a 63)) s := ⟨h.1.2.1, h.1.1.2.2.2.2.1⟩
theorem xE_fit {A : Nat → Prop} {a : Nat → Nat} {cs : Nat → ClassId} {s : State} {H0 : Heap} (h : xE A a cs s H0) : xFw xm_fits s ∧ xl_V xl_yV 1 188 xs_fit (cs 0) none s := ⟨h.1.2.1, h.1.1.1⟩
theorem xE_dot {A : Nat → Prop} {a : Nat → Nat} {cs : Nat → ClassId} {s : State} {H0 : Heap} (h : xE A a cs s H0) : xFw xm_of s ∧ xl_V xl_yI 67 391 xs_dot (cs 5) (some (a 64)) s := ⟨h.1.2.2.2.1, h.1.1.2.2.2.2.2⟩
theorem xE.nw {A : Nat → Prop} {a : Nat → Nat} {cs : Nat → ClassId} {s : State} {H0 : Heap} (h : xE A a cs s H0) : xNw s := h.1.2.2.2.2
/-- a method's start over the tracker's world -/
def xPr (G : va_G) (t : Nat → ClassId) (A : Nat → Prop) (a : Nat → Nat) (cs : Nat → ClassId) (L : List Nat) (ws : va_W) : State → Prop := fun U => va_P G vwCl ws U.heap ∧ va_K G vwCl (Tys t) U ∧ XD A a L ∧ (∀ q, U.heap.size ≤ q → A q) ∧ xE A a cs U U.heap
/-- .. with a Fit object -/
def xPf (G : va_G) (t : Nat → ClassId) (A : Nat → Prop) (a : Nat → Nat) (cs : Nat → ClassId) (L : List Nat) (ws : va_W) (z : Nat) (tol : Int32) : State → Prop := fun U => xPr G t A a cs L ws U ∧ xl_C z (cs 0) [.int tol] A U.heap
section XP
variable {G : va_G} {t : Nat → ClassId} {A : Nat → Prop} {a : Nat → Nat} {cs : Nat → ClassId} {L : List Nat} {ws : va_W} {z : Nat} {tol : Int32} {av : List Value} {s U : State} {H H0 : Heap} {locs : List Loc}
theorem xPr_fb : FrameBlind (va_Pc av (xPr G t A a cs L ws)) := fun x U g mk q => ⟨q.1, q.2.1, va_K.moved (u := U) (U := U.calling g mk x) (Vm.Alike.refl U.vm) q.2.2.1, q.2.2.2.1, q.2.2.2.2.1, xE.warm (s := U) (U := U.calling g mk x) (locs := []) q.2.2.2.2.2 (State.WarmedH.refl U) va_S.rf⟩
theorem xPf_fb : FrameBlind (va_Pc av (xPf G t A a cs L ws z tol)) := fun x U g mk q => ⟨q.1, (xPr_fb (av := av) x U g mk ⟨q.1, q.2.1⟩).2, q.2.2⟩
theorem xPr_of (hP : va_P G vwCl ws H) (hK : va_K G vwCl (Tys t) s) (hD : XD A a L) (hS : va_S A H0 H locs) (hA : ∀ q, H0.size ≤ q → A q) (hE : xE A a cs s H0) (hU : U.heap = H) (hW : s.WarmedH U.vm) : xPr G t A a cs L ws U :=
  ⟨by rw [hU]; exact hP, va_K.moved hW.alike hK, hD, fun q hq => hA q (Nat.le_trans hS.1 (by rw [← hU]; exact hq)), hE.warm hW (by rw [hU]; exact hS)⟩
theorem xPf_of (hP : va_P G vwCl ws H) (hK : va_K G vwCl (Tys t) s) (hD : XD A a L) (hS : va_S A H0 H locs) (hA : ∀ q, H0.size ≤ q → A q) (hE : xE A a cs s H0) (hZ : xl_C z (cs 0) [.int tol] A H0) (hU : U.heap = H) (hW : s.WarmedH U.vm) : xPf G t A a cs L ws z tol U :=
  ⟨xPr_of hP hK hD hS hA hE hU hW, by rw [hU]; exact hZ.kept hS⟩
end XP
/-- what of the bodies is: which, where, what they hold -/
def BodOk (K : XK) (dir many : Nat → Int32) : Prop := ∀ k i : Nat, k < 2 → i < nK many k → ∃ q, K.rk k i = some q ∧ q ∈ K.L ∧ K.f q = .inr (4 + k, [.int (dir (36 * k + 3 * i)), .int (dir (36 * k + 3 * i + 1)), .int (dir (36 * k + 3 * i + 2))])
theorem lt_mx {many : Nat → Int32} (hM : Mok many) {k i : Nat} (hk : k < 2) (hi : i < nK many k) : i < mxK k := Nat.lt_of_lt_of_le hi (hM k hk).2
theorem mx_1000 (k : Nat) : mxK k ≤ 1000 := by unfold mxK; split <;> decide
theorem xin_lt {x y : Int32} {n : Nat} (h : y = nI n) (hn : n ≤ 1000) : ((0 : Int32).toInt ≤ x.toInt ∧ x.toInt ≤ (y - 1).toInt) ↔ (0 ≤ x.toInt ∧ x.toInt < (n : Int)) := by
  have e : (y - 1).toInt = (n : Int) - 1 := by rw [h, show (1 : Int32) = nI 1 from rfl, pk_sub_toInt (by omega) (by omega)]; rfl
  rw [e]
  simp
  omega
theorem xin_le {x y : Int32} {n : Nat} (h : y = nI n) (hn : n < 2 ^ 31) : ((0 : Int32).toInt ≤ x.toInt ∧ x.toInt ≤ y.toInt) ↔ (0 ≤ x.toInt ∧ x.toInt ≤ (n : Int)) := by
  rw [h, nI_toInt hn]
  simp
section XR
variable {p : Program} {l : Launch} {e : Env} {R : Room} {s : State} {m : MethodId} {args : Array Value} {below : List Frame} {meth : Method} {c : Code} {H : Heap} {locs : List Loc} {cells slots : Nat} {Q : State → Prop}
variable {cc : ByteArray} {pc : Nat} {ls : Array Slot} {rest : List Value} {D : va_G} {cl : List vw_C} {tys : List (ClassId × FieldType)} {ws : va_W} {a : Nat}
theorem xq_aald (hexec : p.tables.exec = Jvm.exec) (hb : c.code = cc) (hK : va_K D cl tys s) (hP : va_P D cl ws H) (q0 t0 : Nat) {cA : ClassId} {ty : FieldType} {n : Nat} {f : Nat → Option Nat} {r : Value} (ha : ws[q0]? = some (a, .inl (cA, n, .inr (.inr (.inr (.inr f)))))) (ht : tys[t0]? = some (cA, ty)) (hty : ty.isReference = true) {i : Int32} (j : Nat) (hi : i = nI j) (hj : j < n) (hn : n ≤ 1000) (hr : va_rf (f j) = r) (hdg : decode cc pc = .ok (.aaload, 1))
    (kk : W p l e R s m args below meth c H locs cells slots Q (F0 m (pc + 1) ls (r :: rest))) : W p l e R s m args below meth c H locs cells slots Q (F0 m pc ls (.int i :: .ref a :: rest)) := by
  subst hi
  have hlt : (nI j).toNatClampNeg < n := by rw [tn_nI (by omega)]; exact hj
  have hin : vp_in (nI j) n := vp_in_nI hj (by omega)
  refine W.aald (v := va_rf (f (nI j).toNatClampNeg)) (ty := ty) hexec hb (hP q0 _ ha) ((hK.2 t0 _ ht).1 n (fun j => va_rf (f j))) hty (fun q => by cases q) (by show ¬ (nI j < 0 ∨ (arrV _ _ _).slots.size ≤ _); rw [arrV_size]; exact hin) (by show (arrV _ _ _).slots[_]? = _; rw [arrV_read _ _ hlt]) rfl rfl hdg ?_
  rw [tn_nI (by omega), hr]
  exact kk
end XR
section XX
variable {t : Nat → ClassId} {a : Nat → Nat} {G : va_G} {s : State} {H : Heap} {K : XK} {many : (Nat → Int32)} {settings : (Nat → Int32)} {isVoted : Int32} {lotsNow : Int32} {seen : (Nat → Int32)} {keyOne : (Nat → Int32)} {keyTwo : (Nat → Int32)} {votes : (Nat → Int32)} {looked : Int32} {matched : Int32} {without : Int32} {trio : (Nat → Int32)} {takenStar : (Nat → Int32)} {takenAs : (Nat → Int32)} {takenSpot : (Nat → Int32)} {pairs : Int32} {starArms : (Nat → Int64)} {spotArms : (Nat → Int64)} {isTurn : Int32} {places : (Nat → Int32)} {byStar : (Nat → Int32)} {byFar : (Nat → Int32)} {one : (Nat → Int64)} {usedNow : (Nat → Int32)} {laidMany : (Nat → Int32)} {finding : Int32}
theorem x_recv (hP : va_P G vwCl (Xx t a K many settings isVoted lotsNow seen keyOne keyTwo votes looked matched without trio takenStar takenAs takenSpot pairs starArms spotArms isTurn places byStar byFar one usedNow laidMany finding) H) (hK : va_K G vwCl (Tys t) s) : ∃ cell : Cell, H[a 0]? = some cell ∧ cell.vm.isStatics = false ∧ s.vm.findClass RX0 = some cell.cls := va_recv hK hP (ci := 0) (q0 := 0) (q := (RX0, TX0, 32)) rfl xk_this
/-- a pooled cell by itself -/
theorem x_pool (hP : va_P G vwCl (Xx t a K many settings isVoted lotsNow seen keyOne keyTwo votes looked matched without trio takenStar takenAs takenSpot pairs starArms spotArms isTurn places byStar byFar one usedNow laidMany finding) H) {q : Nat} {e : va_E} (hq : q ∈ K.L) (he : K.f q = e) : va_P G vwCl [(q, e)] H := by
  obtain ⟨k, hk⟩ := va_pl_get (X := Xc t a K many settings isVoted lotsNow seen keyOne keyTwo votes looked matched without trio takenStar takenAs takenSpot pairs starArms spotArms isTurn places byStar byFar one usedNow laidMany finding) (f := K.f) hq
  rw [he] at hk
  intro i x hx
  match i, hx with
  | 0, hx => cases hx; exact hP k _ hk
  | i + 1, hx => cases hx
end XX
