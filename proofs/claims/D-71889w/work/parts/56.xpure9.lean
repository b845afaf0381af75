/-! PURE WORDS of the tracker: adding, seeing -/
abbrev adP (many : Nat → Int32) (k : Nat) (x y z : Int32) : Prop := dirP x y z ∧ ¬ nK many k = mxK k
def adM (many : Nat → Int32) (k : Nat) (x y z : Int32) : Nat → Int32 := if adP many k x y z then upd many k (many k + 1) else many
def adD (dir many : Nat → Int32) (k : Nat) (x y z : Int32) : Nat → Int32 := if adP many k x y z then laysF dir (36 * k + 3 * nK many k) x y z else dir
def adV (v : Int32) (many : Nat → Int32) (k : Nat) (x y z : Int32) : Int32 := if adP many k x y z then 0 else v
def adR (many : Nat → Int32) (k : Nat) (x y z : Int32) : Int32 := if dirP x y z then (if nK many k = mxK k then -4 else many k + 1) else -2
theorem nk_eq {many : Nat → Int32} (hM : Mok many) {k : Nat} (hk : k < 2) : many k = nI (mxK k) ↔ nK many k = mxK k := by
  have h := (hM k hk).2
  have hm := mx_le hk
  constructor
  · intro e
    show (many k).toNatClampNeg = _
    rw [e, tn_nI (by omega)]
  · intro e
    rw [← e]
    exact (hM k hk).1
def tri (f : Nat → Int32) : T3 := (f 0, f 1, f 2)
def nsX (d : Int32) (v : T3) (m : Int32) : T3 × Int32 := if m = 0 then (v, d) else noise3 d v m
def welX (p : T3) : T3 := (p.1, p.2.1, wellF p)
theorem nsX_0 (d : Int32) (v : T3) : nsX d v 0 = (v, d) := if_pos rfl
theorem nsX_t {d m : Int32} {v : T3} (h : ¬ m = 0) : nsX d v m = ((lesF (greF (v.1 + lotR d (2 * m + 1) - m) (-100)) 100, lesF (greF (v.2.1 + lotR (lotN d) (2 * m + 1) - m) (-100)) 100, lesF (greF (v.2.2 + lotR (lotN (lotN d)) (2 * m + 1) - m) (-100)) 100), lotN (lotN (lotN d))) := by
  unfold nsX noise3 noisyF
  simp only [if_neg h]
theorem clamp_eq (b : Int32) : maxX (-100) (minX 100 b) = lesF (greF b (-100)) 100 := by
  unfold maxX minX lesF greF
  have c1 : (100 : Int32).toInt = 100 := by decide
  have c2 : (-100 : Int32).toInt = -100 := by decide
  by_cases h1 : b < 100 <;> by_cases h2 : (-100 : Int32) < b
  · rw [if_pos h1, if_pos h2, if_pos h1]
  · rw [if_pos h1, if_neg h2, if_pos (by decide)]
  · rw [if_neg h1, if_pos (by decide), if_pos h2, if_neg h1]
  · rw [Int32.lt_iff_toInt_lt, c1] at h1
    rw [Int32.lt_iff_toInt_lt, c2] at h2
    omega
def seesX (i a b c : Nat) (m : Int32) (s : (Nat → Int32) × Int32) : (Nat → Int32) × Int32 :=
  (laysF s.1 (36 * 1 + 3 * i) (nsX s.2 (rotF (s.1 (36 * 0 + 3 * i + 0)) (s.1 (36 * 0 + 3 * i + 1)) (s.1 (36 * 0 + 3 * i + 2)) a b c) m).1.1
     (nsX s.2 (rotF (s.1 (36 * 0 + 3 * i + 0)) (s.1 (36 * 0 + 3 * i + 1)) (s.1 (36 * 0 + 3 * i + 2)) a b c) m).1.2.1
     (wellF (nsX s.2 (rotF (s.1 (36 * 0 + 3 * i + 0)) (s.1 (36 * 0 + 3 * i + 1)) (s.1 (36 * 0 + 3 * i + 2)) a b c) m).1),
   (nsX s.2 (rotF (s.1 (36 * 0 + 3 * i + 0)) (s.1 (36 * 0 + 3 * i + 1)) (s.1 (36 * 0 + 3 * i + 2)) a b c) m).2)
def seeX (n a b c : Nat) (m : Int32) (s : (Nat → Int32) × Int32) : (Nat → Int32) × Int32 := fz (fun i s => seesX i a b c m s) n s
theorem seeX_0 (a b c : Nat) (m : Int32) (s : (Nat → Int32) × Int32) : seeX 0 a b c m s = s := rfl
theorem seeX_s (n a b c : Nat) (m : Int32) (s : (Nat → Int32) × Int32) : seeX (n + 1) a b c m s = seesX n a b c m (seeX n a b c m s) := rfl
theorem upd_upd (f : Nat → Int32) (k : Nat) (u v : Int32) : upd (upd f k u) k v = upd f k v := by
  funext j
  by_cases h : j = k
  · subst h; rw [upd_eq, upd_eq]
  · rw [upd_nej _ _ h, upd_nej _ _ h, upd_nej _ _ h]
/-- how many, when i are seen -/
abbrev mnX (many : Nat → Int32) (i : Nat) : Nat → Int32 := upd many 1 (nI i)
theorem mnX_s (many : Nat → Int32) (i : Nat) : upd (mnX many i) 1 (mnX many i 1 + 1) = mnX many (i + 1) := by
  unfold mnX
  rw [upd_upd, upd_eq, ← nI_succ]
theorem mnX_ok {many : Nat → Int32} (hM : Mok many) {i : Nat} (hi : i ≤ 8) : Mok (mnX many i) ∧ nK (mnX many i) 1 = i ∧ nK (mnX many i) 0 = nK many 0 := by
  have e1 : nK (mnX many i) 1 = i := by
    show (upd many 1 (nI i) 1).toNatClampNeg = i
    rw [upd_eq, tn_nI (by omega)]
  refine ⟨fun k hk => ?_, e1, rfl⟩
  rcases (show k = 0 ∨ k = 1 by omega) with rfl | rfl
  · exact hM 0 hk
  · rw [e1]
    exact ⟨upd_eq _ _ _, hi⟩
theorem bod_0 {K : XK} {dir many : Nat → Int32} (hB : BodOk K dir many) : BodOk K dir (mnX many 0) := fun k i hk hi => by
  rcases (show k = 0 ∨ k = 1 by omega) with rfl | rfl
  · exact hB 0 i hk hi
  · have : nK (mnX many 0) 1 = 0 := by
      show (upd many 1 (nI 0) 1).toNatClampNeg = 0
      rw [upd_eq]; rfl
    omega
theorem bod_n {K : XK} {dir many : Nat → Int32} {m2 : Nat → Int32} (hB : BodOk K dir many) (h : many = m2) : BodOk K dir m2 := h ▸ hB
theorem xk_int {t : Nat → ClassId} {D : va_G} {cl : List vw_C} {cA : ClassId} {s : State} (h : va_K D cl (Tys t ++ [(cA, .int)]) s) : cA = t 0 := by
  have h1 : s.vm.findClass ("[" ++ FieldType.int.toString) = some (t 0) := (h.2 0 (t 0, .int) rfl).2
  have h2 : s.vm.findClass ("[" ++ FieldType.int.toString) = some cA := (h.2 13 (cA, .int) rfl).2
  exact Option.some.inj (h2.symm.trans h1)
theorem turX_s {f : Nat → Int32} {n : Nat} {v : T3} (h : tri f = fz (fun _ => rotX) n v) : tri (upd (upd f 1 (-(f 2))) 2 (f 1)) = fz (fun _ => rotX) (n + 1) v := by
  rw [fz_s, ← h]
  rfl
theorem turY_s {f : Nat → Int32} {n : Nat} {v : T3} (h : tri f = fz (fun _ => rotY) n v) : tri (upd (upd f 0 (f 2)) 2 (-(f 0))) = fz (fun _ => rotY) (n + 1) v := by
  rw [fz_s, ← h]
  rfl
theorem turZ_s {f : Nat → Int32} {n : Nat} {v : T3} (h : tri f = fz (fun _ => rotZ) n v) : tri (upd (upd f 0 (-(f 1))) 1 (f 0)) = fz (fun _ => rotZ) (n + 1) v := by
  rw [fz_s, ← h]
  rfl
theorem sees_e {i a b c N : Nat} {m : Int32} {s : (Nat → Int32) × Int32} {su sv : Nat → Int32} (h3 : tri sv = rotF (s.1 (36 * 0 + 3 * i + 0)) (s.1 (36 * 0 + 3 * i + 1)) (s.1 (36 * 0 + 3 * i + 2)) a b c) (hn : tri su = welX (nsX s.2 (tri sv) m).1) (h1 : N = i) : laysF s.1 (36 * 1 + 3 * N) (su 0) (su 1) (su 2) = (seesX i a b c m s).1 ∧ (nsX s.2 (tri sv) m).2 = (seesX i a b c m s).2 := by
  subst h1
  rw [h3] at hn ⊢
  have e0 : su 0 = (welX (nsX s.2 (rotF (s.1 (36 * 0 + 3 * N + 0)) (s.1 (36 * 0 + 3 * N + 1)) (s.1 (36 * 0 + 3 * N + 2)) a b c) m).1).1 := congrArg (fun z => z.1) hn
  have e1 : su 1 = (welX (nsX s.2 (rotF (s.1 (36 * 0 + 3 * N + 0)) (s.1 (36 * 0 + 3 * N + 1)) (s.1 (36 * 0 + 3 * N + 2)) a b c) m).1).2.1 := congrArg (fun z => z.2.1) hn
  have e2 : su 2 = (welX (nsX s.2 (rotF (s.1 (36 * 0 + 3 * N + 0)) (s.1 (36 * 0 + 3 * N + 1)) (s.1 (36 * 0 + 3 * N + 2)) a b c) m).1).2.2 := congrArg (fun z => z.2.2) hn
  rw [e0, e1, e2]
  exact ⟨rfl, rfl⟩
theorem BodOk.same {K K' : XK} {dir many : Nat → Int32} (hB : BodOk K dir many) (h1 : ∀ k i, K'.rk k i = K.rk k i) (h2 : ∀ u, u ∈ K.L → u ∈ K'.L ∧ K'.f u = K.f u) : BodOk K' dir many := fun k i hk hi => by
  obtain ⟨q, g1, g2, g3⟩ := hB k i hk hi
  exact ⟨q, by rw [h1]; exact g1, (h2 q g2).1, (h2 q g2).2.trans g3⟩
theorem min_nI {many : Nat → Int32} (hM : Mok many) : minX 8 (many 0) = nI (min 8 (nK many 0)) := by
  have h := (hM 0 (by decide)).2
  have hmx : mxK 0 = 12 := rfl
  unfold minX
  by_cases h8 : nK many 0 < 8
  · rw [Nat.min_eq_right (by omega), if_pos (by rw [(hM 0 (by decide)).1]; exact nI_lt h8 (by decide))]
    exact (hM 0 (by decide)).1
  · rw [Nat.min_eq_left (by omega), if_neg (by rw [(hM 0 (by decide)).1]; exact nI_nlt (a := nK many 0) (b := 8) (by omega) (by omega))]
    rfl
abbrev seP (many : Nat → Int32) (n x y z m : Int32) : Prop := (0 ≤ n.toInt ∧ n.toInt ≤ ((min 8 (nK many 0) : Nat) : Int)) ∧ rng x 0 3 ∧ rng y 0 3 ∧ rng z 0 3 ∧ rng m 0 3
theorem mm_ok {m : Int32} (h : rng m 0 3) : m = 0 ∨ (0 < m ∧ ¬ 2 * m + 1 = 0) := by
  obtain ⟨j, hj, rfl⟩ := rng_ex (n := 3) h
  rcases (show j = 0 ∨ j = 1 ∨ j = 2 ∨ j = 3 by omega) with rfl | rfl | rfl | rfl
  · exact Or.inl rfl
  · exact Or.inr (by decide)
  · exact Or.inr (by decide)
  · exact Or.inr (by decide)
