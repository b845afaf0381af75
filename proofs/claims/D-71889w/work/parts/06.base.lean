/-! BASE: rooms, entries, numbers, branches, arrays; rows of ours over the kit's -/
/-- the room of a method of depth d, K words of locals to spare -/
def rm_ (K d mc ms : Nat) : Room := { frames := d, cells := mc, slots := ms, locals := K + 48 * d }
/-- a contract's start in one step -/
theorem mk_W {l : Launch} {y : MethodName} {cc : ByteArray} {n : Nat} {ret : Option FieldType} {R : Room} {av : List Value} {Pre : State → Prop} {Qc : Array Value → State → Outcome → State → Prop} {mc ms : Nat} {free : Addr → Prop} (hy : plainName y.cls = true) (hn : (lg_sl av).length ≤ n)
    (body : ∀ (p : Program) (e : Env) (s : State) (m : MethodId) (below : List Frame) (meth : Method) (c : Code) (ls : Array Slot), p.tables.exec = Jvm.exec → c.code = cc → c.maxLocals = n → meth.sig.returnType = ret → meth.locks = false → (∀ w ∈ lw_all, w.before av.toArray s = true) → s.vm.findClass y.cls = some m.cls → meth.name = y.name → Pre s → lv_has ls n (lv_args 0 av) →
      W p l e R s m av.toArray below meth c s.heap [] 0 0 (MQ below Qc av.toArray s mc ms free) (F0 m 0 ls [])) : Met l y (ws_ y cc n ret) R (va_Pc av Pre) Qc mc ms free := by
  refine Met.ofW (cc := cc) (maxL := n) (ret := ret) hy rfl ?_
  intro p e s m args below meth c s₁ B hml hv
  obtain ⟨rfl, hv⟩ := hv
  have hts := atoms_spec (ws := ws_ y cc n ret) B.pre
  have hl := lv_entry av (n := n) hn
  rw [lg_entry_eq]
  exact body p e s m below meth c _ B.exec B.bytes hml B.returns B.notSynchronized (fun w h => hts w (List.mem_cons_of_mem _ h)) (findClass_of_methodNamed B.named) (name_of_methodNamed B.named B.method).1 hv hl
def b2i (b : Prop) [Decidable b] : Int32 := if b then 1 else 0
theorem b2i_t {b : Prop} [Decidable b] (h : b) : b2i b = 1 := if_pos h
theorem b2i_f {b : Prop} [Decidable b] (h : ¬ b) : b2i b = 0 := if_neg h
theorem b2i_0 {b : Prop} [Decidable b] : b2i b = 0 ↔ ¬ b := by
  unfold b2i
  split <;> rename_i h
  · exact ⟨fun e => absurd e (by decide), fun n => absurd h n⟩
  · exact ⟨fun _ => h, fun _ => rfl⟩
theorem b2i_n0 {b : Prop} [Decidable b] (h : ¬ b2i b = 0) : b := Classical.byContradiction fun n => h (b2i_0.mpr n)
theorem b2i_c {b c : Prop} [Decidable b] [Decidable c] (h : b ↔ c) : b2i b = b2i c := by
  unfold b2i
  by_cases hb : b
  · rw [if_pos hb, if_pos (h.mp hb)]
  · rw [if_neg hb, if_neg (fun q => hb (h.mpr q))]
theorem b2i_nz {b : Prop} [Decidable b] : narrow .boolean (.int (b2i b)) = .int (b2i b) := by
  unfold b2i
  split <;> rfl
theorem ix_add {x y : Int32} {i j : Nat} (hx : x = nI i) (hy : y = nI j) : x + y = nI (i + j) := by rw [hx, hy, nI_add]
theorem ix_mul {x y : Int32} {i j : Nat} (hx : x = nI i) (hy : y = nI j) : x * y = nI (i * j) := by rw [hx, hy, pk_mul]
theorem ix_sub {x y : Int32} {i j : Nat} (hx : x = nI i) (hy : y = nI j) (h : j ≤ i) : x - y = nI (i - j) := by rw [hx, hy, pk_sub h]
theorem ix_div {x y : Int32} {i j : Nat} (hx : x = nI i) (hy : y = nI j) (hi : i < 2 ^ 31) (h0 : 0 < j) (hj : j < 2 ^ 31) : x / y = nI (i / j) := by rw [hx, hy, pk_div hi h0 hj]
theorem ix_rem {x y : Int32} {i j : Nat} (hx : x = nI i) (hy : y = nI j) (hi : i < 2 ^ 31) (h0 : 0 < j) (hj : j < 2 ^ 31) : x - x / y * y = nI (i % j) := by rw [hx, hy, pk_rem hi h0 hj]
theorem nI_inc (i : Nat) : nI i + Int32.ofInt 1 = nI (i + 1) := nI_1 i
/-- f from lo on, n times: f lo, f (lo + 1), .. -/
def fr {α : Type} (f : Nat → α → α) (lo : Nat) : Nat → α → α
  | 0, s => s
  | n + 1, s => f (lo + n) (fr f lo n s)
theorem fr_0 {α : Type} (f : Nat → α → α) (lo : Nat) (s : α) : fr f lo 0 s = s := rfl
theorem fr_s {α : Type} (f : Nat → α → α) (lo n : Nat) (s : α) : fr f lo (n + 1) s = f (lo + n) (fr f lo n s) := rfl
theorem fr_i {α : Type} (f : Nat → α → α) {lo i : Nat} (h : lo ≤ i) (s : α) : fr f lo (i + 1 - lo) s = f i (fr f lo (i - lo) s) := by
  rw [show i + 1 - lo = (i - lo) + 1 by omega, fr_s, show lo + (i - lo) = i by omega]
section RB
variable {p : Program} {l : Launch} {e : Env} {R : Room} {s : State} {m : MethodId} {args : Array Value} {below : List Frame} {meth : Method} {c : Code} {H : Heap} {locs : List Loc} {cells slots : Nat} {Q : State → Prop}
variable {cc : ByteArray} {pc : Nat} {ls : Array Slot} {rest : List Value}
theorem r_top {x y : Int32} (h : x = y) (k : W p l e R s m args below meth c H locs cells slots Q (F0 m pc ls (.int y :: rest))) : W p l e R s m args below meth c H locs cells slots Q (F0 m pc ls (.int x :: rest)) := by rw [h]; exact k
theorem r_topl {x y : Int64} (h : x = y) (k : W p l e R s m args below meth c H locs cells slots Q (F0 m pc ls (.long y :: rest))) : W p l e R s m args below meth c H locs cells slots Q (F0 m pc ls (.long x :: rest)) := by rw [h]; exact k
theorem r_stk {st st' : List Value} (h : st = st') (k : W p l e R s m args below meth c H locs cells slots Q (F0 m pc ls st')) : W p l e R s m args below meth c H locs cells slots Q (F0 m pc ls st) := by rw [h]; exact k
theorem rn_ge (hexec : p.tables.exec = Jvm.exec) (hb : c.code = cc) {x y : Int32} {off : Int} {tgt : Nat} (hdg : decode cc pc = .ok (.if_icmp .ge off, 3)) (ht : (pc : Int) + off = (tgt : Int)) {i j : Nat} (hi : x = nI i) (hj : y = nI j) (bi : i < 2 ^ 31) (bj : j < 2 ^ 31)
    (kt : j ≤ i → W p l e R s m args below meth c H locs cells slots Q (F0 m tgt ls rest)) (kf : i < j → W p l e R s m args below meth c H locs cells slots Q (F0 m (pc + 3) ls rest)) : W p l e R s m args below meth c H locs cells slots Q (F0 m pc ls (.int y :: .int x :: rest)) :=
  lv_icmp_ge hexec hb hdg ht (fun h => kt ((nI_leI bj bi).mp (by rw [← hi, ← hj]; exact h))) (fun h => kf (Nat.lt_of_not_le fun q => h (by rw [hi, hj]; exact (nI_leI bj bi).mpr q)))
theorem rn_lt (hexec : p.tables.exec = Jvm.exec) (hb : c.code = cc) {x y : Int32} {off : Int} {tgt : Nat} (hdg : decode cc pc = .ok (.if_icmp .lt off, 3)) (ht : (pc : Int) + off = (tgt : Int)) {i j : Nat} (hi : x = nI i) (hj : y = nI j) (bi : i < 2 ^ 31) (bj : j < 2 ^ 31)
    (kt : i < j → W p l e R s m args below meth c H locs cells slots Q (F0 m tgt ls rest)) (kf : j ≤ i → W p l e R s m args below meth c H locs cells slots Q (F0 m (pc + 3) ls rest)) : W p l e R s m args below meth c H locs cells slots Q (F0 m pc ls (.int y :: .int x :: rest)) :=
  lv_icmp_lt hexec hb hdg ht (fun h => kt ((nI_ltI bi bj).mp (by rw [← hi, ← hj]; exact h))) (fun h => kf (Nat.le_of_not_lt fun q => h (by rw [hi, hj]; exact (nI_ltI bi bj).mpr q)))
theorem rn_gt (hexec : p.tables.exec = Jvm.exec) (hb : c.code = cc) {x y : Int32} {off : Int} {tgt : Nat} (hdg : decode cc pc = .ok (.if_icmp .gt off, 3)) (ht : (pc : Int) + off = (tgt : Int)) {i j : Nat} (hi : x = nI i) (hj : y = nI j) (bi : i < 2 ^ 31) (bj : j < 2 ^ 31)
    (kt : j < i → W p l e R s m args below meth c H locs cells slots Q (F0 m tgt ls rest)) (kf : i ≤ j → W p l e R s m args below meth c H locs cells slots Q (F0 m (pc + 3) ls rest)) : W p l e R s m args below meth c H locs cells slots Q (F0 m pc ls (.int y :: .int x :: rest)) :=
  lv_icmp_gt hexec hb hdg ht (fun h => kt ((nI_ltI bj bi).mp (by rw [← hi, ← hj]; exact h))) (fun h => kf (Nat.le_of_not_lt fun q => h (by rw [hi, hj]; exact (nI_ltI bj bi).mpr q)))
theorem rn_le (hexec : p.tables.exec = Jvm.exec) (hb : c.code = cc) {x y : Int32} {off : Int} {tgt : Nat} (hdg : decode cc pc = .ok (.if_icmp .le off, 3)) (ht : (pc : Int) + off = (tgt : Int)) {i j : Nat} (hi : x = nI i) (hj : y = nI j) (bi : i < 2 ^ 31) (bj : j < 2 ^ 31)
    (kt : i ≤ j → W p l e R s m args below meth c H locs cells slots Q (F0 m tgt ls rest)) (kf : j < i → W p l e R s m args below meth c H locs cells slots Q (F0 m (pc + 3) ls rest)) : W p l e R s m args below meth c H locs cells slots Q (F0 m pc ls (.int y :: .int x :: rest)) :=
  lv_icmp_le hexec hb hdg ht (fun h => kt ((nI_leI bi bj).mp (by rw [← hi, ← hj]; exact h))) (fun h => kf (Nat.lt_of_not_le fun q => h (by rw [hi, hj]; exact (nI_leI bi bj).mpr q)))
theorem rn_eq (hexec : p.tables.exec = Jvm.exec) (hb : c.code = cc) {x y : Int32} {off : Int} {tgt : Nat} (hdg : decode cc pc = .ok (.if_icmp .eq off, 3)) (ht : (pc : Int) + off = (tgt : Int)) {i j : Nat} (hi : x = nI i) (hj : y = nI j) (bi : i < 2 ^ 31) (bj : j < 2 ^ 31)
    (kt : i = j → W p l e R s m args below meth c H locs cells slots Q (F0 m tgt ls rest)) (kf : i ≠ j → W p l e R s m args below meth c H locs cells slots Q (F0 m (pc + 3) ls rest)) : W p l e R s m args below meth c H locs cells slots Q (F0 m pc ls (.int y :: .int x :: rest)) :=
  lv_icmp_eq hexec hb hdg ht (fun h => kt ((nI_eq bi bj).mp (by rw [← hi, ← hj]; exact h))) (fun h => kf (fun q => h (by rw [hi, hj, q])))
theorem rn_ne (hexec : p.tables.exec = Jvm.exec) (hb : c.code = cc) {x y : Int32} {off : Int} {tgt : Nat} (hdg : decode cc pc = .ok (.if_icmp .ne off, 3)) (ht : (pc : Int) + off = (tgt : Int)) {i j : Nat} (hi : x = nI i) (hj : y = nI j) (bi : i < 2 ^ 31) (bj : j < 2 ^ 31)
    (kt : i ≠ j → W p l e R s m args below meth c H locs cells slots Q (F0 m tgt ls rest)) (kf : i = j → W p l e R s m args below meth c H locs cells slots Q (F0 m (pc + 3) ls rest)) : W p l e R s m args below meth c H locs cells slots Q (F0 m pc ls (.int y :: .int x :: rest)) :=
  lv_icmp_ne hexec hb hdg ht (fun h => kt (fun q => h (by rw [hi, hj, q]))) (fun h => kf ((nI_eq bi bj).mp (by rw [← hi, ← hj]; exact h)))
/-- a test of a truth value -/
theorem rb_eq (hexec : p.tables.exec = Jvm.exec) (hb : c.code = cc) {b : Prop} [Decidable b] {off : Int} {tgt : Nat} (hdg : decode cc pc = .ok (.ifCond .eq off, 3)) (ht : (pc : Int) + off = (tgt : Int))
    (kt : ¬ b → W p l e R s m args below meth c H locs cells slots Q (F0 m tgt ls rest)) (kf : b → W p l e R s m args below meth c H locs cells slots Q (F0 m (pc + 3) ls rest)) : W p l e R s m args below meth c H locs cells slots Q (F0 m pc ls (.int (b2i b) :: rest)) :=
  lv_if_eq hexec hb hdg ht (fun h => kt (b2i_0.mp h)) (fun h => kf (b2i_n0 h))
theorem rb_ne (hexec : p.tables.exec = Jvm.exec) (hb : c.code = cc) {b : Prop} [Decidable b] {off : Int} {tgt : Nat} (hdg : decode cc pc = .ok (.ifCond .ne off, 3)) (ht : (pc : Int) + off = (tgt : Int))
    (kt : b → W p l e R s m args below meth c H locs cells slots Q (F0 m tgt ls rest)) (kf : ¬ b → W p l e R s m args below meth c H locs cells slots Q (F0 m (pc + 3) ls rest)) : W p l e R s m args below meth c H locs cells slots Q (F0 m pc ls (.int (b2i b) :: rest)) :=
  lv_if_ne hexec hb hdg ht (fun h => kt (b2i_n0 h)) (fun h => kf (b2i_0.mp h))
section RA
variable {D : va_G} {cl : List vw_C} {tys : List (ClassId × FieldType)} {ws ws' : va_W} {A : Nat → Prop} {a : Nat} {H0 : Heap}
theorem in_nI {i : Int32} {j n : Nat} (hi : i = nI j) (hj : j < n) (hn : n ≤ 1000) : vp_in i n := by rw [hi]; exact vp_in_nI hj (by omega)
theorem cl_nI {i : Int32} {j n : Nat} (hi : i = nI j) (hj : j < n) (hn : n ≤ 1000) : i.toNatClampNeg = j := by rw [hi]; exact nI_clamp (by omega)
theorem r_iald (hexec : p.tables.exec = Jvm.exec) (hb : c.code = cc) (hK : va_K D cl tys s) (hP : va_P D cl ws H) (q0 t0 : Nat) {cA : ClassId} {n : Nat} {f : Nat → Int32} (ha : ws[q0]? = some (a, .inl (cA, n, .inl f))) (ht : tys[t0]? = some (cA, .int)) {i : Int32} (j : Nat) (hi : i = nI j) (hj : j < n) (hn : n ≤ 1000) (hdg : decode cc pc = .ok (.iaload, 1))
    (kk : W p l e R s m args below meth c H locs cells slots Q (F0 m (pc + 1) ls (.int (f j) :: rest))) : W p l e R s m args below meth c H locs cells slots Q (F0 m pc ls (.int i :: .ref a :: rest)) :=
  va_iald hexec hb hK hP q0 t0 ha ht (in_nI hi hj hn) hdg (by rw [cl_nI hi hj hn]; exact kk)
theorem r_iast (hexec : p.tables.exec = Jvm.exec) (hb : c.code = cc) (hK : va_K D cl tys s) (hP : va_P D cl ws H) (hD : va_D A ws) (hS : va_S A H0 H locs) (q0 t0 : Nat) {cA : ClassId} {n : Nat} {f : Nat → Int32} (ha : ws[q0]? = some (a, .inl (cA, n, .inl f))) (ht : tys[t0]? = some (cA, .int)) {i x : Int32} (j : Nat) (hi : i = nI j) (hj : j < n) (hn : n ≤ 1000) (hdg : decode cc pc = .ok (.iastore, 1)) (hw : ws.set q0 (a, .inl (cA, n, .inl (upd f j x))) = ws')
    (kk : ∀ (H1 : Heap) (locs1 : List Loc), va_P D cl ws' H1 → va_S A H0 H1 locs1 → W p l e R s m args below meth c H1 locs1 cells slots Q (F0 m (pc + 1) ls rest)) : W p l e R s m args below meth c H locs cells slots Q (F0 m pc ls (.int x :: .int i :: .ref a :: rest)) :=
  va_iast hexec hb hK hP hD hS q0 t0 ha ht (in_nI hi hj hn) hdg (fun H1 locs1 h _ hs => kk H1 locs1 (by rw [cl_nI hi hj hn, hw] at h; exact h) hs)
theorem r_lald (hexec : p.tables.exec = Jvm.exec) (hb : c.code = cc) (hK : va_K D cl tys s) (hP : va_P D cl ws H) (q0 t0 : Nat) {cA : ClassId} {n : Nat} {f : Nat → Int64} (ha : ws[q0]? = some (a, .inl (cA, n, .inr (.inl f)))) (ht : tys[t0]? = some (cA, .long)) {i : Int32} (j : Nat) (hi : i = nI j) (hj : j < n) (hn : n ≤ 1000) (hdg : decode cc pc = .ok (.laload, 1))
    (kk : W p l e R s m args below meth c H locs cells slots Q (F0 m (pc + 1) ls (.long (f j) :: rest))) : W p l e R s m args below meth c H locs cells slots Q (F0 m pc ls (.int i :: .ref a :: rest)) :=
  va_lald hexec hb hK hP q0 t0 ha ht (in_nI hi hj hn) hdg (by rw [cl_nI hi hj hn]; exact kk)
theorem r_last (hexec : p.tables.exec = Jvm.exec) (hb : c.code = cc) (hK : va_K D cl tys s) (hP : va_P D cl ws H) (hD : va_D A ws) (hS : va_S A H0 H locs) (q0 t0 : Nat) {cA : ClassId} {n : Nat} {f : Nat → Int64} (ha : ws[q0]? = some (a, .inl (cA, n, .inr (.inl f)))) (ht : tys[t0]? = some (cA, .long)) {i : Int32} {x : Int64} (j : Nat) (hi : i = nI j) (hj : j < n) (hn : n ≤ 1000) (hdg : decode cc pc = .ok (.lastore, 1)) (hw : ws.set q0 (a, .inl (cA, n, .inr (.inl (vp_updL f j x)))) = ws')
    (kk : ∀ (H1 : Heap) (locs1 : List Loc), va_P D cl ws' H1 → va_S A H0 H1 locs1 → W p l e R s m args below meth c H1 locs1 cells slots Q (F0 m (pc + 1) ls rest)) : W p l e R s m args below meth c H locs cells slots Q (F0 m pc ls (.long x :: .int i :: .ref a :: rest)) :=
  va_last hexec hb hK hP hD hS q0 t0 ha ht (in_nI hi hj hn) hdg (fun H1 locs1 h _ hs => kk H1 locs1 (by rw [cl_nI hi hj hn, hw] at h; exact h) hs)
theorem r_zald (hexec : p.tables.exec = Jvm.exec) (hb : c.code = cc) (hK : va_K D cl tys s) (hP : va_P D cl ws H) (q0 t0 : Nat) {cA : ClassId} {n : Nat} {f : Nat → Int32} (ha : ws[q0]? = some (a, .inl (cA, n, .inl f))) (ht : tys[t0]? = some (cA, .boolean)) {i : Int32} (j : Nat) (hi : i = nI j) (hj : j < n) (hn : n ≤ 1000) (hdg : decode cc pc = .ok (.baload, 1))
    (kk : W p l e R s m args below meth c H locs cells slots Q (F0 m (pc + 1) ls (.int (f j) :: rest))) : W p l e R s m args below meth c H locs cells slots Q (F0 m pc ls (.int i :: .ref a :: rest)) :=
  va_zald hexec hb hK hP q0 t0 ha ht (in_nI hi hj hn) hdg (by rw [cl_nI hi hj hn]; exact kk)
theorem r_zast (hexec : p.tables.exec = Jvm.exec) (hb : c.code = cc) (hK : va_K D cl tys s) (hP : va_P D cl ws H) (hD : va_D A ws) (hS : va_S A H0 H locs) (q0 t0 : Nat) {cA : ClassId} {n : Nat} {f : Nat → Int32} (ha : ws[q0]? = some (a, .inl (cA, n, .inl f))) (ht : tys[t0]? = some (cA, .boolean)) {i x : Int32} (hx : vp_nar .boolean x = x) (j : Nat) (hi : i = nI j) (hj : j < n) (hn : n ≤ 1000) (hdg : decode cc pc = .ok (.bastore, 1)) (hw : ws.set q0 (a, .inl (cA, n, .inl (upd f j x))) = ws')
    (kk : ∀ (H1 : Heap) (locs1 : List Loc), va_P D cl ws' H1 → va_S A H0 H1 locs1 → W p l e R s m args below meth c H1 locs1 cells slots Q (F0 m (pc + 1) ls rest)) : W p l e R s m args below meth c H locs cells slots Q (F0 m pc ls (.int x :: .int i :: .ref a :: rest)) :=
  va_zast hexec hb hK hP hD hS q0 t0 ha ht (in_nI hi hj hn) hdg (fun H1 locs1 h _ hs => kk H1 locs1 (by rw [cl_nI hi hj hn, hx, hw] at h; exact h) hs)
end RA
end RB
/-- the classes, by their places -/
abbrev vwCl : List vw_C := [(RX0, TX0, 32), (RX1, TX1, 1), (RX2, TX2, 2), (RX3, TX3, 28), (RX5, TX5, 3), (RX6, TX6, 3)]
/-- the array classes, by their places -/
abbrev Tys (t : Nat → ClassId) : List (ClassId × FieldType) := [(t 0, .int), (t 1, .long), (t 2, .boolean), (t 3, .byte), (t 4, .short), (t 5, .object "StarTracker$Body"), (t 6, .object "StarTracker$Star"), (t 7, .object "StarTracker$Spot"), (t 8, .object "StarTracker$Turner"), (t 9, .object "StarTracker$Sheet"), (t 10, .array (.object "StarTracker$Body")), (t 11, .array .int), (t 12, .array .long)]
theorem nI_q (n : Nat) : (OfNat.ofNat n : Int32) = nI n := rfl
theorem iinc_nI {x : Int32} {i : Nat} (h : x = nI i) : x + Int32.ofInt 1 = nI (i + 1) := by rw [h]; exact nI_1 i
theorem lc_k {v : Value} {a b : List Value} (h : a = b) : v :: a = v :: b := by rw [h]
theorem lc_i {x y : Int32} {a b : List Value} (e : x = y) (h : a = b) : Value.int x :: a = Value.int y :: b := by rw [e, h]
