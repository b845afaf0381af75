/-! LAMBDAS: what a call site of the metafactory makes, and its calls by the interface -/
section XLA
/-- three arguments, if there are any -/
theorem xl_three {α : Type} {x : Array Nat} {f : Nat → Nat → Nat → Option α} {r : α} (h : Lambda.shapeOf?.match_15 (fun _ => Option α) x f (fun _ => none) = some r) : ∃ b c d, f b c d = some r := by
  obtain ⟨L⟩ := x
  rcases L with _ | ⟨b, _ | ⟨c, _ | ⟨d, _ | ⟨e, L⟩⟩⟩⟩
  · exact nomatch h
  · exact nomatch h
  · exact nomatch h
  · exact ⟨b, c, d, h⟩
  · exact nomatch h
/-- what the site's index says: the name, the captured values' types -/
theorem xl_site {cf : ClassFile} {index : Nat} {σ : Lambda.Shape} (h : Lambda.shapeOf? cf index = some σ) :
    ∃ (b nt : Nat) (name desc : String) (site : MethodDescriptor), cf.constantPool[index]? = some (.invokeDynamic b nt) ∧ cf.constantPool.nameAndType? nt = some (name, desc) ∧ parseMethodDescriptor desc = some site ∧ site.parameters = σ.captured := by
  unfold Lambda.shapeOf? at h
  split at h
  · rename_i b nt hc
    obtain ⟨e1, -, h⟩ := Option.bind_eq_some_iff.mp h
    obtain ⟨e2, -, h⟩ := Option.bind_eq_some_iff.mp h
    split at h
    · obtain ⟨e3, -, h⟩ := Option.bind_eq_some_iff.mp h
      obtain ⟨a0, a1, a2, h⟩ := xl_three h
      split at h
      · split at h
        · split at h
          · obtain ⟨⟨name, desc⟩, hnt, h⟩ := Option.bind_eq_some_iff.mp h
            obtain ⟨site, hs, h⟩ := Option.bind_eq_some_iff.mp h
            dsimp only at h hs
            split at h
            · obtain ⟨x1, -, h⟩ := Option.bind_eq_some_iff.mp h
              obtain ⟨x2, -, h⟩ := Option.bind_eq_some_iff.mp h
              obtain ⟨x3, -, h⟩ := Option.bind_eq_some_iff.mp h
              obtain ⟨x4, -, h⟩ := Option.bind_eq_some_iff.mp h
              obtain ⟨x5, -, h⟩ := Option.bind_eq_some_iff.mp h
              obtain ⟨x6, -, h⟩ := Option.bind_eq_some_iff.mp h
              cases h
              exact ⟨b, nt, name, desc, site, hc, hnt, hs, rfl⟩
            · cases h
          · cases h
        · cases h
      · cases h
    · cases h
  · cases h
def xl_nul : ClassFile := { minorVersion := 0, majorVersion := 0, constantPool := #[], accessFlags := 0, thisClass := 0, superClass := 0, interfaces := #[], fields := #[], methods := #[], attributes := #[] }
def xl_D (σ : Lambda.Shape) : ClassFile := (σ.file "StarTracker").getD xl_nul
def xl_fw (σ : Lambda.Shape) : Method := ((layoutMethods (xl_D σ)).bind (·[1]?)).getD default
def xl_laid (σ : Lambda.Shape) : Array Field × Array FieldType × Array FieldType := (layoutFields (xl_D σ) 0).getD (#[], #[], #[])
/-- what is computed of a shape: its file, its one method -/
def xl_Ok (σ : Lambda.Shape) (code : ByteArray) (nL iM iC iN iS : Nat) (ret : Option FieldType) (td : String) : Prop :=
  (σ.file "StarTracker").isSome = true ∧ ((layoutMethods (xl_D σ)).bind (·[1]?)).isSome = true ∧
  ((xl_fw σ).code.map fun c => (c.code.data, c.maxLocals)) = some (code.data, nL) ∧ ((xl_fw σ).accessFlags, (xl_fw σ).sig.returnType) = (0x0001, ret) ∧
  ((xl_D σ).constantPool[iM]? = some (.methodref iC iN) ∧ (xl_D σ).constantPool.className? iC = some "StarTracker" ∧ (xl_D σ).constantPool.nameAndType? iN = some (σ.implName, td)) ∧
  ((xl_D σ).constantPool[iC]? = some (.class_ iS) ∧ (xl_D σ).constantPool.string? iS = some "StarTracker" ∧ iC ≠ (xl_D σ).thisClass) ∧ σ.implClass = "StarTracker" ∧ σ.implDesc.toString = td
/-- .. with a field -/
def xl_OkF (σ : Lambda.Shape) (iF iT iU : Nat) (ty : FieldType) : Prop :=
  (layoutFields (xl_D σ) 0).isSome = true ∧ (xl_D σ).constantPool[iF]? = some (.fieldref iT iU) ∧ (xl_D σ).constantPool.nameAndType? iU = some ("arg$1", ty.toString) ∧ (xl_laid σ).1.findIdx? (·.name == "arg$1") = some 0 ∧
  ((xl_laid σ).1[0]?).map (fun f => (f.isStatic, f.slot)) = some (false, 0) ∧ (xl_laid σ).2.1 = #[ty]
theorem xl_file {σ : Lambda.Shape} (h : (σ.file "StarTracker").isSome = true) : σ.file "StarTracker" = some (xl_D σ) := by
  obtain ⟨x, hx⟩ := Option.isSome_iff_exists.mp h
  simp [xl_D, hx]
/-- what the made class holds -/
theorem xl_facts {σ : Lambda.Shape} {code : ByteArray} {nL iM iC iN iS : Nat} {ret : Option FieldType} {td : String} (K : xl_Ok σ code nL iM iC iN iS ret td) {e : Setting} {vm : Vm} {d c : ClassId} {dk : Class} (hd : vm.classes[d]? = some dk) (hname : dk.name = "StarTracker") (h : Lambda.isMade e vm d σ c = true) :
    ∃ (k tk : Class) (file : ClassFile) (methk : Method) (ck : Code) (st iface : ClassId) (t found : MethodId),
      vm.classes[c]? = some k ∧ k.name = "StarTracker$$Lambda" ∧ k.cf = some file ∧ file.constantPool = (xl_D σ).constantPool ∧ k.kind = .ordinary ∧
      vm.method? ⟨c, 1⟩ = some methk ∧ methk.code = some ck ∧ ck.code = code ∧ ck.maxLocals = nL ∧ methk.locks = false ∧ methk.accessFlags = 0x0001 ∧ methk.sig.returnType = ret ∧
      vm.findClass "StarTracker" = some st ∧ vm.classes[st]? = some tk ∧ ((methodIn st σ.implName td tk.isInterface none).ask e vm).1 = .ok t ∧ vm.methodReady c iM t ∧ vm.classReady c iC st ∧
      vm.findClass σ.iface = some iface ∧ ((methodIn iface σ.name σ.sam.toString true none).ask e vm).1 = .ok found ∧ selectMethod {} vm c found = .method ⟨c, 1⟩ := by
  obtain ⟨h1, h2, h3, h4, ⟨m1, m2, m3⟩, ⟨c1, c2, c3⟩, i1, i2⟩ := K
  obtain ⟨dk', k, ok, tk, file, cf, object, iface, st, lay, methods, target, found, hd', hk, hfile, hcf, hobj, hif, hok, hlay, hms, ht, htk, hg, hfd, hrec, hload, hhid, hlin, hitf, hpool, hmeth, hfields, hty, hres, hsel⟩ := Lambda.isMade_spec h
  cases hd.symm.trans hd'
  rw [hname, xl_file h1] at hcf
  cases hcf
  have hfw : methods[1]? = some (xl_fw σ) := by
    obtain ⟨x, hx⟩ := Option.isSome_iff_exists.mp h2
    have hq : xl_fw σ = x := by simp [xl_fw, hx]
    rw [hms] at hx
    rw [hq]
    exact hx
  obtain ⟨b, hb, hsame⟩ := hmeth 1 _ hfw
  obtain ⟨-, -, s1, s2, x, y, y1, y2, -, y3, y4, -⟩ := Lambda.sameMethod_spec hsame
  rw [y1] at h3
  simp only [Option.map_some, Option.some.injEq, Prod.mk.injEq] at h3
  simp only [Prod.mk.injEq] at h4
  rw [i1] at ht
  rw [i2] at hg
  refine ⟨k, tk, file, b, y, st, iface, target, found, hk, by rw [hrec.1, hname]; rfl, hfile, hpool.2.1, hrec.2.1, by simp [Vm.method?, hk, hb], y2, by rw [y4]; exact ByteArray.ext h3.1, y3.trans h3.2, ?_, s2.trans h4.1, by rw [s1]; exact h4.2, ht, htk, hg,
    ⟨k, hk, hres iM _ (Lambda.resolvedOf_method m1 m2 ht htk m3 hg)⟩, ⟨k, hk, hres iC _ (Lambda.resolvedOf_class c1 c3 c2 ht)⟩, hif, hfd, hsel⟩
  have ha : b.accessFlags = 0x0001 := s2.trans h4.1
  simp [Method.locks, Method.isSynchronized, ha, hasFlag, Acc.synchronized]
/-- .. and its field -/
theorem xl_factsF {σ : Lambda.Shape} {iF iT iU : Nat} {ty : FieldType} (hf : (σ.file "StarTracker").isSome = true) (K : xl_OkF σ iF iT iU ty) {e : Setting} {vm : Vm} {d c : ClassId} {dk : Class} (hd : vm.classes[d]? = some dk) (hname : dk.name = "StarTracker") (h : Lambda.isMade e vm d σ c = true)
    (hO : ∀ o ok, vm.findClass "java/lang/Object" = some o → vm.classes[o]? = some ok → ok.instanceTypes.size = 0) :
    ∃ (k : Class) (f0 : Field), vm.classes[c]? = some k ∧ k.instanceTypes = #[ty] ∧ vm.fieldReady c iF c f0 ∧ f0.isStatic = false ∧ f0.slot = 0 := by
  obtain ⟨h1, m1, m2, m3, m4, m5⟩ := K
  obtain ⟨dk', k, ok, tk, file, cf, object, iface, st, lay, methods, target, found, hd', hk, hfile, hcf, hobj, hif, hok, hlay, hms, ht, htk, hg, hfd, hrec, hload, hhid, hlin, hitf, hpool, hmeth, hfields, hty, hres, hsel⟩ := Lambda.isMade_spec h
  cases hd.symm.trans hd'
  rw [hname, xl_file hf] at hcf
  cases hcf
  have hsz := hO object ok hobj hok
  have hl : layoutFields (xl_D σ) 0 = some (xl_laid σ) := by
    obtain ⟨x, hx⟩ := Option.isSome_iff_exists.mp h1
    simp [xl_laid, hx]
  rw [hsz, hl] at hlay
  cases hlay
  obtain ⟨g0, hg0, hp0⟩ := Option.map_eq_some_iff.mp m4
  simp only [Prod.mk.injEq] at hp0
  have hemp : ok.instanceTypes = #[] := Array.eq_empty_of_size_eq_zero hsz
  exact ⟨k, g0, hk, by rw [hty.1, hemp, m5]; rfl, ⟨k, 0, k, hk, hres iF _ (Lambda.resolvedOf_field m1 m2 m3), hk, hfields 0 _ hg0⟩, hp0.1, hp0.2⟩
end XLA
section XLB
/-- the tables' side of a site: its class, its object if it has one -/
def xl_V (x : MethodName) (pc index : Nat) (σ : Lambda.Shape) (c : ClassId) (one : Option Addr) (U : State) : Prop :=
  ∃ (m : MethodId) (k : Class) (cf : ClassFile) (i0 p0 : Nat) (lk : Linked), U.methodNamed? x = some m ∧ U.vm.classes[m.cls]? = some k ∧ k.cf = some cf ∧ Lambda.shapeOf? cf index = some σ ∧
    (k.callSites.find? fun y => y.1 == m.idx && y.2.1 == pc) = some (i0, p0, lk) ∧ Lambda.isMade { classPath := fun _ => none } U.vm m.cls σ c = true ∧ U.lambdaCallable σ c = true ∧
    ((∃ a, lk = .constant a ∧ one = some a ∧ σ.captured = []) ∨ (lk = .makes c ∧ one = none ∧ σ.captured ≠ []))
theorem xl_V.of {x : MethodName} {pc index : Nat} {σ : Lambda.Shape} {args : Array Value} {s : State} (h : (Cond.lambdaSite x pc index σ).before args s = true) :
    ∃ c one, xl_V x pc index σ c one s ∧ ∀ a, one = some a → ∃ cell : Cell, s.heap[a]? = some cell ∧ cell.cls = c ∧ cell.vm = .none ∧ cell.slots = #[] := by
  obtain ⟨c, one, hat⟩ := Cond.lambdaSite_spec h
  obtain ⟨m, k, cf, i0, p0, lk, hm, hk, hcf, hsh, -, hfind, hmade, hcan, hlk⟩ := State.lambdaAt?_spec hat
  refine ⟨c, one, ⟨m, k, cf, i0, p0, lk, hm, hk, hcf, hsh, hfind, hmade, hcan, ?_⟩, ?_⟩
  · rcases hlk with ⟨a, cell, e1, e2, e3, -⟩ | h
    · exact Or.inl ⟨a, e1, e2, e3⟩
    · exact Or.inr h
  · intro a ha
    rcases hlk with ⟨a', cell, e1, e2, e3, e4, e5, e6, e7⟩ | ⟨-, h, -⟩
    · cases e2.symm.trans ha
      exact ⟨cell, e4, e5, e6, e7⟩
    · rw [h] at ha; cases ha
theorem xl_V.warm {x : MethodName} {pc index : Nat} {σ : Lambda.Shape} {c : ClassId} {one : Option Addr} {s U : State} (hW : s.WarmedH U.vm) (h : xl_V x pc index σ c one s) : xl_V x pc index σ c one U := by
  obtain ⟨m, k, cf, i0, p0, lk, hm, hk, hcf, hsh, hfind, hmade, hcan, hlk⟩ := h
  obtain ⟨k', hk', he⟩ := hW.alike.2.2 _ _ hk
  refine ⟨m, k', cf, i0, p0, lk, ?_, hk', by rw [he]; exact hcf, hsh, by rw [he]; exact hfind, Lambda.isMade_warmer hW hmade, ?_, hlk⟩
  · have := State.methodNamed?_setVm (s := s) hW.alike x
    rw [hm] at this
    exact this
  · have hA := hW.alike
    simp only [State.lambdaCallable, hA.findClass, hA.assignable, hA.superclasses, hA.declaredIn] at hcan ⊢
    exact hcan
/-- an object of a site's class -/
def xl_C (z : Nat) (c : ClassId) (vs : List Value) (A : Nat → Prop) (H : Heap) : Prop := H[z]? = some ({ cls := c, slots := vs.toArray, vm := .none } : Cell) ∧ ¬ A z
theorem xl_C.kept {z : Nat} {c : ClassId} {vs : List Value} {A : Nat → Prop} {H0 H : Heap} {locs : List Loc} (h : xl_C z c vs A H0) (hS : va_S A H0 H locs) : xl_C z c vs A H := by
  have hlt : z < H0.size := (Array.getElem?_eq_some_iff.mp h.1).1
  exact ⟨(hS.2.1 z hlt h.2).trans h.1, h.2⟩
end XLB
section XLC
variable {p : Program} {l : Launch} {e : Env} {R : Room} {s : State} {m : MethodId} {args : Array Value} {below : List Frame} {meth : Method} {c : Code} {H : Heap} {locs : List Loc} {cells slots : Nat} {Q : State → Prop}
theorem xl_weaken {tb : Tables} {mid : List Frame} {a b : State} (h : Steps tb e (mid ++ below) a b) : Steps tb e below a b := by
  obtain ⟨n, hn, w⟩ := h
  exact ⟨n, hn, fun k hk => (w k hk).weaken⟩
theorem xl_entry {av : List Value} {n : Nat} (hn : (lg_sl av).length ≤ n) (k : ∀ ls, lv_has ls n (lv_args 0 av) → W p l e R s m args below meth c H locs cells slots Q (F0 m 0 ls [])) : W p l e R s m args below meth c H locs cells slots Q (entryFrame m av.toArray n) := by
  have hl := lv_entry av (n := n) hn
  rw [lg_entry_eq]
  exact k _ hl
/-- a static call out of a made class: its reference is ready -/
theorem xl_runS {y : MethodName} {bytes cc : ByteArray} {maxL nL mc ms n index : Nat} {ret : Option FieldType} {rm : Room} {Pc : Array Value → State → Prop} {Qc : Array Value → State → Outcome → State → Prop} {free : Addr → Prop} {As rest : List Value} {g : JFrame}
    (hx : p.tables.exec = Jvm.exec) (hb : c.code = cc) (hml : c.maxLocals = nL) (hts : ∀ w ∈ lw_all, w.before args s = true) (hM : Met l y (ws_ y bytes maxL ret) rm Pc Qc mc ms free)
    (hcode : Cond.code y bytes maxL ret ∈ lw_all) (hstat : Cond.static y ∈ lw_all) (hini : Cond.initialized y.cls ∈ lw_all) (hy : y.cls ≠ "java/lang/invoke/MethodHandle" ∧ y.cls ≠ "java/lang/invoke/VarHandle" ∧ (parseMethodDescriptor y.desc).map (fun d => d.parameters.length) = some n)
    (hrc : rm.cells = mc) (hrs : rm.slots = ms) (hfr : rm.frames + 1 ≤ R.frames ∧ 8 + (maxL + 11) + rm.locals ≤ R.locals)
    (href : ∀ T : State, s.WarmedH T.vm → Op.plainRef T e m.cls index ∧ ∃ t, T.vm.methodReady m.cls index t ∧ T.methodNamed? y = some t)
    (hp : PreS s H Pc As) (hg : g.method = m) (hn : As.length = n) (hsize : g.locals.size = nL) (hstack : g.stack = As.reverse ++ rest) (hW : 2 * g.monitorRoom + (rest.map fun v => v.category).sum ≤ 8) (hdg : decode cc g.pc = .ok (.invokestatic index, 3)) (hf : cells + mc ≤ R.cells ∧ slots + ms ≤ R.slots) :
    va_Run p l e R s m args below meth c H locs cells slots mc ms g rest (Qc As.toArray) free := by
  have hws := pay_in hts (lw_meth hcode)
  have hK : Back l R p e below s args y 3 8 (PreOf R mc ms Pc) (PostOf Qc mc ms free) := back_of (bytes := bytes) (maxL := maxL) (ret := ret) hM hp.1 hrc hrs hfr.1 hfr.2 hws List.mem_cons_self (fun a' U hW => word_at hW (Or.inl (by first | rfl | simp [Cond.onTables, Cond.keeps, Cond.steady])) (hts _ hini))
  intro T hT X
  obtain ⟨hpl, t, hready, hnt⟩ := href T X.warmed
  have hcT := hws _ List.mem_cons_self #[] T X.warmed
  obtain ⟨metht, ct, hmt, -, -, -, -, -, -, hsig⟩ := Cond.code_spec hnt hcT
  have hst : metht.isStatic = true := Cond.static_spec hnt hmt (word_at (a' := #[]) X.warmed (Or.inl (by first | rfl | simp [Cond.onTables, Cond.keeps, Cond.steady])) (hts _ hstat))
  obtain ⟨kt, hkt, hnm⟩ := className_of_methodNamed hnt
  have hinit : kt.init = .initialized := Cond.initialized_spec (findClass_of_methodNamed hnt) hkt (word_at (a' := #[]) X.warmed (Or.inl (by first | rfl | simp [Cond.onTables, Cond.keeps, Cond.steady])) (hts _ hini))
  have hpoly : signaturePolymorphic kt metht = false := by simp [signaturePolymorphic, hnm, hy.1, hy.2.1]
  have hlen : As.length = metht.sig.parameters.length := by
    have h2 := hy.2.2
    rw [hsig] at h2
    exact hn.trans (Option.some.inj h2).symm
  obtain ⟨v, B, X', hpost, hsteps⟩ := hK m meth c ⟨T, locs, cells, slots⟩ { g with stack := rest } (.invokestatic index) t As.toArray X hg (hsize.trans hml.symm) (by rw [hb]; exact hdg) hW hnt ⟨hf.1, hf.2, hp.2 T hT X.warmed⟩
  obtain ⟨U', l2, c2, s2⟩ := B
  obtain ⟨g', mk, t2, L, e1, e2, hq, h1, hL, h2, h3⟩ := hpost
  dsimp only [Pt.U, Pt.locs, Pt.cells, Pt.slots] at X' e1 e2 hq h1 h2 h3 hsteps
  subst h1; subst h2; subst h3
  refine ⟨v, T.calling g' mk As.toArray, t2, U', L, hT, X', hL, e1, e2, hq, fun target h => ?_⟩
  subst hg
  jvm_step X.here [hx, hb, hdg, invokestatic.wp_ready (e := e) (s := T) (f := g) (args := As) (rest := rest) X.here.top hpl hready hkt hmt hpoly hst hinit hlen hstack]
  intro acts
  rw [doInvoke_state]
  exact hsteps.trans h
theorem xl_cr {mc ms : Nat} {g : JFrame} {rest : List Value} {Qa : State → Outcome → State → Prop} {free : Addr → Prop} (h : va_Run p l e R s m args below meth c H locs cells slots mc ms g rest Qa free) : CallRun p l e R s m args below meth c H locs cells slots mc ms g rest Qa free := by
  intro T hT X
  obtain ⟨v, st₀, t, T', L, a1, a2, a3, a4, a5, a6, a7⟩ := h T hT X
  exact ⟨v, st₀, t, T', L, a1, a2, a3, a4, a6, a7⟩
/-- a field of the made class: ready -/
theorem xl_getf {cc : ByteArray} (hx : p.tables.exec = Jvm.exec) (hb : c.code = cc) {index pc : Nat} {ls : Array Slot} {rest : List Value} {a : Nat} {cell : Cell} {v : Value} (hf : ∀ T : State, s.WarmedH T.vm → ∃ f0 : Field, T.vm.fieldReady m.cls index m.cls f0 ∧ f0.isStatic = false ∧ f0.slot = 0)
    (hcell : H[a]? = some cell) (hknown : cell.vm ≠ .unknown) (hslot : cell.slots[0]? = some v) (hdg : decode cc pc = .ok (.getfield index, 3))
    (kk : W p l e R s m args below meth c H locs cells slots Q (F0 m (pc + 3) ls (v :: rest))) : W p l e R s m args below meth c H locs cells slots Q (F0 m pc ls (.ref a :: rest)) := by
  intro T hT X
  obtain ⟨t, a1, b1⟩ := kk T hT X
  refine ⟨t, ?_, b1⟩
  obtain ⟨f0, r1, r2, r3⟩ := hf T X.warmed
  jvm_step X.here [hx, hb, hdg, getfield.wp_ready (e := e) (s := T) (c := m.cls) (field := f0) (a := a) (rest := rest) (cell := cell) (v := v) (f := F0 m pc ls (.ref a :: rest)) X.here.top r1 r2 rfl (by rw [hT]; exact hcell) hknown (by rw [r3]; exact hslot)]
  exact a1
/-- a call of a made object by its interface -/
theorem xl_runF {own : String} {x : MethodName} {σ : Lambda.Shape} {cK iface : ClassId} {found : MethodId} {b : Nat} {vs As rest : List Value} {cc : ByteArray} {nL mc ms n index count : Nat} {Qc : Array Value → State → Outcome → State → Prop} {free : Addr → Prop} {g : JFrame} {R' : Room} {methk : Method} {ck : Code} {kK : Class}
    (hx : p.tables.exec = Jvm.exec) (hb : c.code = cc) (hml : c.maxLocals = nL) (hown : s.vm.findClass own = some m.cls)
    (hlink : (Cond.methodLink own index x).before args s = true) (hdecl : (Cond.declares x).before args s = true) (hface : (Cond.interfaceMethod x.cls x.cls x.name x.desc).before args s = true)
    (hxc : x.cls ≠ "java/lang/invoke/MethodHandle" ∧ x.cls ≠ "java/lang/invoke/VarHandle" ∧ (parseMethodDescriptor x.desc).map (fun d => d.parameters.length) = some n)
    (hσ : σ.iface = x.cls ∧ σ.name = x.name ∧ σ.sam.toString = x.desc)
    (hif : s.vm.findClass σ.iface = some iface) (hfd : ((methodIn iface σ.name σ.sam.toString true none).ask { classPath := fun _ => none } s.vm).1 = .ok found) (hsel : selectMethod {} s.vm cK found = .method ⟨cK, 1⟩) (hcan : s.lambdaCallable σ cK = true)
    (hkK : s.vm.classes[cK]? = some kK) (hkn : kK.name = "StarTracker$$Lambda") (hmk : s.vm.method? ⟨cK, 1⟩ = some methk) (hck : methk.code = some ck) (hlk : methk.locks = false) (hfl : methk.accessFlags = 0x0001)
    (hcell : H[b]? = some ({ cls := cK, slots := vs.toArray, vm := .none } : Cell))
    (inner : ∀ (sI : State) (g' : JFrame), sI.heap = H → s.WarmedH sI.vm → W p l e R' sI ⟨cK, 1⟩ (Value.ref b :: As).toArray (.java g' :: below) methk ck H [] 0 0 (MQ (.java g' :: below) Qc (Value.ref b :: As).toArray sI mc ms free) (entryFrame ⟨cK, 1⟩ (Value.ref b :: As).toArray ck.maxLocals))
    (hg : g.method = m) (hn : As.length = n) (hsize : g.locals.size = nL) (hstack : g.stack = As.reverse ++ .ref b :: rest) (hW : 2 * g.monitorRoom + (rest.map fun v => v.category).sum ≤ 8) (hdg : decode cc g.pc = .ok (.invokeinterface index count, 5))
    (hR : R'.frames + 1 ≤ R.frames ∧ 8 + (ck.maxLocals + 11) + R'.locals ≤ R.locals ∧ cells + R'.cells ≤ R.cells ∧ slots + R'.slots ≤ R.slots) :
    va_Run5 p l e R s m args below meth c H locs cells slots mc ms g rest (Qc (Value.ref b :: As).toArray) free := by
  intro T hT X
  obtain ⟨r0, r, hn0, hrm, hstR, hsigR⟩ := Cond.declares_spec hdecl
  obtain ⟨cL, kL, r1, hcL, hkL, hiL, hfoundL, hn1⟩ := Cond.interfaceMethod_spec hface
  cases hn0.symm.trans hn1
  have hr0cls : r0.cls = cL := Option.some.inj ((findClass_of_methodNamed hn0).symm.trans hcL)
  obtain ⟨hnameR, hdescR⟩ := name_of_methodNamed hn0 hrm
  have hci : iface = cL := by rw [hσ.1] at hif; exact Option.some.inj (hif.symm.trans hcL)
  subst hci
  have hfr : found = r0 := by
    have h1 : s.methodFound? x.cls x.name x.desc = some r0 := hfoundL
    simp only [State.methodFound?, hcL, hkL, hiL, Option.bind_eq_bind, Option.bind_some] at h1
    rw [hσ.2.1, hσ.2.2] at hfd
    rw [hfd] at h1
    exact Option.some.inj h1
  subst hfr
  have hselP : selectMethod e.platform s.vm cK found = .method ⟨cK, 1⟩ := by rw [Launch.admits_selectMethod X.admits]; exact hsel
  obtain ⟨i2, hi2, hasg, hway⟩ := State.lambdaCallable_spec hcan
  rw [hσ.1] at hi2
  cases hcL.symm.trans hi2
  have hlen : As.length = r.sig.parameters.length := by
    have h2 := hxc.2.2
    rw [hsigR] at h2
    exact hn.trans (Option.some.inj h2).symm
  have hwayR : ((cK :: s.vm.superclasses cK).any fun k => (declaredIn s.vm r.name r.desc k).any fun (_, y) => y.isPrivate || y.isStatic) = false := by
    rw [hnameR, hdescR, ← hσ.2.1, ← hσ.2.2]
    exact hway
  have hpub : hasFlag methk.accessFlags Acc.public_ = true := by rw [hfl]; decide
  have habs : methk.isAbstract = false := by simp [Method.isAbstract, hfl, hasFlag, Acc.abstract]
  have hcT : T.heap[b]? = some ({ cls := cK, slots := vs.toArray, vm := .none } : Cell) := by rw [hT]; exact hcell
  have hki : s.vm.classes[found.cls]? = some kL := by rw [hr0cls]; exact hkL
  have hin0 : s.vm.assignable cK found.cls = true := by rw [hr0cls]; exact hasg
  have hdgc : decode c.code g.pc = .ok (.invokeinterface index count, 5) := by rw [hb]; exact hdg
  obtain ⟨vm₁, X₁, hstep₁⟩ := X.invokeinterface hx hown hlink hn0 hrm hstR hki hiL ⟨hxc.1, hxc.2.1⟩ (a := b) (cell := { cls := cK, slots := vs.toArray, vm := .none }) (kcell := kK) hcT (fun z h => by cases h) hkK hin0 hselP hmk hwayR hpub habs (g := g) hg (argsL := As) (rest := rest) hlen hstack hdgc
  have hmk₁ : (T.setVm vm₁).vm.method? ⟨cK, 1⟩ = some methk := by rw [X₁.warmed.alike.method?]; exact hmk
  obtain ⟨kK₁, hkK₁, hek⟩ := X₁.warmed.alike.2.2 _ _ hkK
  obtain ⟨Y₀, hin⟩ := X₁.into (g := { g with stack := rest }) hg (hsize.trans hml.symm) (by rw [hb]; exact hdg) (Value.ref b :: As).toArray (R' := R') hmk₁ hck hlk
    (State.plainMethod.of_name (fun k' hk' => by cases hkK₁.symm.trans hk'; rw [hek]; show plainName kK.name = true; rw [hkn]; decide)) hR.1 (by have := hR.2.1; show 2 * g.monitorRoom + (rest.map fun v => v.category).sum + (ck.maxLocals + 11) + R'.locals ≤ R.locals; omega) hR.2.2.1 hR.2.2.2
  obtain ⟨t, hst, o, hrun, hend, hq, L, hfe, hL⟩ := inner ((T.setVm vm₁).calling { g with stack := rest } ⟨cK, 1⟩ (Value.ref b :: As).toArray) { g with stack := rest } hT X₁.warmed (((T.setVm vm₁).setTop { g with stack := rest }).pushFrame (.java (entryFrame ⟨cK, 1⟩ (Value.ref b :: As).toArray ck.maxLocals))) hT Y₀
  obtain ⟨⟨v, rfl⟩, hWe, hsame⟩ := hfe
  obtain ⟨T', X', hW', hB, ht⟩ := X₁.outOf (g := { g with stack := rest }) hg (by rw [hb]; exact hdg) hend hWe hsame
  refine ⟨v, (T.setVm vm₁).calling { g with stack := rest } ⟨cK, 1⟩ (Value.ref b :: As).toArray, t, T', L, hT, X', hL, by rw [ht]; rfl, by rw [ht]; rfl, hq, fun target h => ?_⟩
  refine hstep₁ _ fun acts => ?_
  rw [hin acts]
  refine Steps.trans (xl_weaken (mid := [.java { g with stack := rest }]) hst) ?_
  rw [ht]
  exact h
/-- the one object of a site without captured values -/
theorem xl_const {cc : ByteArray} {nL pc index : Nat} {x : MethodName} {σ : Lambda.Shape} {cK : ClassId} {z : Nat} {ls : Array Slot} {st : List Value} (hx : p.tables.exec = Jvm.exec) (hb : c.code = cc) (hml : c.maxLocals = nL) (hnm : s.methodNamed? x = some m) (hV : xl_V x pc index σ cK (some z) s)
    (hsize : ls.size = nL) (hpl : l.admits e → 3072 + (st.map fun v => v.category).sum ≤ R.locals ∧ e.platform.lambdaLinkWords = 3072) (hdg : decode cc pc = .ok (.invokedynamic index, 5))
    (kk : W p l e R s m args below meth c H locs cells slots Q (F0 m (pc + 5) ls (.ref z :: st))) : W p l e R s m args below meth c H locs cells slots Q (F0 m pc ls st) := by
  intro T hT X
  obtain ⟨t, a1, b1⟩ := kk T hT X
  refine ⟨t, ?_, b1⟩
  obtain ⟨m', k, cf, i0, p0, lk, hm, hk, hcf, hsh, hfind, -, -, hlk⟩ := hV
  cases hnm.symm.trans hm
  obtain ⟨q1, q2⟩ := hpl X.admits
  rcases hlk with ⟨a, e1, e2, -⟩ | ⟨-, h, -⟩
  · cases e2
    subst e1
    exact X.lambdaConstant hx (g := F0 m pc ls st) rfl (hsize.trans hml.symm) (by rw [hb]; exact hdg) hk hfind (by show 2 * 0 + _ + e.platform.lambdaLinkWords ≤ _; rw [q2]; show 2 * 0 + (st.map fun v => v.category).sum + 3072 ≤ _; omega) a1
  · cases h
/-- a new object of a site that captures an int -/
theorem xl_makes {cc : ByteArray} {nL pc index iF iT iU : Nat} {x : MethodName} {σ : Lambda.Shape} {cK : ClassId} {v : Int32} {ls : Array Slot} {st : List Value} (hx : p.tables.exec = Jvm.exec) (hb : c.code = cc) (hml : c.maxLocals = nL) (hnm : s.methodNamed? x = some m) (hxn : x.cls = "StarTracker") (hV : xl_V x pc index σ cK none s) (hcap : σ.captured = [.int])
    (hfile : (σ.file "StarTracker").isSome = true) (hF : xl_OkF σ iF iT iU .int) (hO : (Cond.instantiable "java/lang/Object" 0).before args s = true)
    (hsize : ls.size = nL) (hpl : l.admits e → 3072 + ((Value.int v :: st).map fun v => v.category).sum ≤ R.locals ∧ e.platform.lambdaLinkWords = 3072) (hcells : cells + 1 ≤ R.cells) (hslots : slots + 1 ≤ R.slots) (hdg : decode cc pc = .ok (.invokedynamic index, 5))
    (kk : W p l e R s m args below meth c (H.push ({ cls := cK, slots := [Value.int v].toArray, vm := .none } : Cell)) locs (cells + 1) (slots + 1) Q (F0 m (pc + 5) ls (.ref H.size :: st))) : W p l e R s m args below meth c H locs cells slots Q (F0 m pc ls (.int v :: st)) := by
  intro T hT X
  obtain ⟨m', k, cf, i0, p0, lk, hm, hk, hcf, hsh, hfind, hmade, -, hlk⟩ := hV
  cases hnm.symm.trans hm
  obtain ⟨q1, q2⟩ := hpl X.admits
  obtain rfl : lk = .makes cK := by
    rcases hlk with ⟨a, -, h, -⟩ | ⟨h, -⟩
    · cases h
    · exact h
  obtain ⟨kS, hkS, hnS⟩ := className_of_methodNamed hnm
  cases hk.symm.trans hkS
  obtain ⟨b, nt, name, desc, site, g1, g2, g3, g4⟩ := xl_site hsh
  have hO' : ∀ o ok, s.vm.findClass "java/lang/Object" = some o → s.vm.classes[o]? = some ok → ok.instanceTypes.size = 0 := by
    intro o ok ho hok
    obtain ⟨cO, kO, hfO, hkO, -, -, -, hsz⟩ := Cond.instantiable_spec hO
    cases hfO.symm.trans ho
    cases hkO.symm.trans hok
    exact hsz
  obtain ⟨kK, f0, hkK, hty, -⟩ := xl_factsF hfile hF hk (hnS.trans hxn) hmade hO'
  have hkind : kK.kind = .ordinary := by
    obtain ⟨_, k2, _, _, _, _, _, _, _, _, _, _, _, -, hk2, -, -, -, -, -, -, -, -, -, -, -, hrec, -⟩ := Lambda.isMade_spec hmade
    cases hkK.symm.trans hk2
    exact hrec.2.1
  have hsl : ((kK.instanceTypes.toList.zip [Value.int v]).map fun (t, v) => narrow t v) = [Value.int v] := by rw [hty]; rfl
  obtain ⟨X', st'⟩ := X.lambdaMakes hx (g := F0 m pc ls (.int v :: st)) rfl (hsize.trans hml.symm) (by rw [hb]; exact hdg) (vals := [Value.int v]) (rest := st) hk hfind hcf g1 g2 (parseLong_of_parse g3) (by rw [g4, hcap]; rfl) rfl hkK
    (by show 2 * 0 + _ + e.platform.lambdaLinkWords ≤ _; rw [q2]; show 2 * 0 + ((Value.int v :: st).map fun v => v.category).sum + 3072 ≤ _; omega) hcells (by rw [hsl]; exact hslots)
    (fun i w hw => by
      rw [hsl] at hw
      match i with
      | 0 => simp at hw; subst hw; simp [State.fitsSlot, State.slotType?, hkK, hkind, hty, fits]
      | j + 1 => simp at hw)
  rw [hsl] at X' st'
  obtain ⟨t, a1, b1⟩ := kk _ (by rw [← hT]; rfl) X'
  exact ⟨t, st' t (by rw [hT]; exact a1), b1⟩
end XLC
