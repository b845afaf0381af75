/-! PURE WORDS of the tracker: rows laid, lost, written -/
abbrev XK.row (K : XK) (s : Nat) (v : Option Nat) : XK := (K.rs, K.rp, K.rt, K.fo, va_up K.ro s v, K.L, K.f)
abbrev XK.frm (K : XK) (s : Nat) (v : Int32) : XK := (K.rs, K.rp, K.rt, upd K.fo s v, K.ro, K.L, K.f)
theorem cut_B (v : Int32) : vp_nar .byte v.toInt8.toInt32 = cutF (nI 0) v := by
  show v.toInt8.toInt32.toInt8.toInt32 = v.toInt8.toInt32
  simp
theorem cut_S (v : Int32) : vp_nar .short v.toInt16.toInt32 = cutF (nI 1) v := by
  show v.toInt16.toInt32.toInt16.toInt32 = v.toInt16.toInt32
  simp
theorem cut_I (v : Int32) : v = cutF (nI 2) v := rfl
theorem put_put (K : XK) (q : Nat) (e u : va_E) : (K.put q e).put q u = K.put q u := by
  have : va_up (va_up K.f q e) q u = va_up K.f q u := by
    funext j
    by_cases h : j = q
    · subst h; rw [va_up_self, va_up_self]
    · rw [va_up_ne _ _ h, va_up_ne _ _ h, va_up_ne _ _ h]
  show (K.rs, K.rp, K.rt, K.fo, K.ro, K.L, va_up (va_up K.f q e) q u) = _
  rw [this]
theorem put_self (K : XK) (q : Nat) {e : va_E} (h : K.f q = e) : K.put q e = K := by
  have : va_up K.f q e = K.f := by
    funext j
    by_cases hj : j = q
    · subst hj; rw [va_up_self, h]
    · rw [va_up_ne _ _ hj]
  show (K.rs, K.rp, K.rt, K.fo, K.ro, K.L, va_up K.f q e) = K
  rw [this]
/-- rows of numbers alone are another -/
def Lays (K K' : XK) : Prop := K'.rs = K.rs ∧ K'.rp = K.rp ∧ K'.rt = K.rt ∧ K'.L = K.L ∧ ∀ u, (∀ c n g, K.f u ≠ .inl (c, n, .inl g)) → K'.f u = K.f u
theorem Lays.rf (K : XK) : Lays K K := ⟨rfl, rfl, rfl, rfl, fun _ _ => rfl⟩
theorem Lays.put {K : XK} {q n : Nat} {c : ClassId} {g : Nat → Int32} {e : va_E} (h : K.f q = .inl (c, n, .inl g)) : Lays K (K.put q e) := ⟨rfl, rfl, rfl, rfl, fun u hu => va_up_ne _ _ (fun q9 => hu c n g (by rw [q9]; exact h))⟩
theorem Lays.row (K : XK) (s : Nat) (v : Option Nat) : Lays K (K.row s v) := ⟨rfl, rfl, rfl, rfl, fun _ _ => rfl⟩
theorem Lays.bod {K K' : XK} {dir many : Nat → Int32} (h : Lays K K') (hB : BodOk K dir many) : BodOk K' dir many := fun k i hk hi => by
  obtain ⟨q, g1, g2, g3⟩ := hB k i hk hi
  refine ⟨q, ?_, by rw [h.2.2.2.1]; exact g2, (h.2.2.2.2 q (fun c n g q9 => by rw [g3] at q9; cases q9)).trans g3⟩
  unfold XK.rk at g1 ⊢
  rw [h.1, h.2.1]
  exact g1
theorem Lays.try {t : Nat → ClassId} {K K' : XK} {tray lm holds : Nat → Int32} (h : Lays K K') (hT : TryOk t K tray lm holds) : TryOk t K' tray lm holds := by
  refine ⟨hT.1, fun j hj => ?_⟩
  obtain ⟨q, g, h1, h2, h3, h4⟩ := hT.2 j hj
  refine ⟨q, g, by rw [h.2.2.1]; exact h1, by rw [h.2.2.2.1]; exact h2, (h.2.2.2.2 q (fun c n g q9 => by rw [h3] at q9; cases q9)).trans h3, fun i hi => ?_⟩
  obtain ⟨k, b, g1, g2, g3, g4, g5⟩ := h4 i hi
  exact ⟨k, b, g1, g2, g3, by rw [h.2.2.2.1]; exact g4, (h.2.2.2.2 b (fun c n g q9 => by rw [g5] at q9; cases q9)).trans g5⟩
theorem sht_put {t : Nat → ClassId} {K : XK} {forms sizes items items' : Nat → Int32} {s fm n q : Nat} {g g' : Nat → Int32} (h : ShtOk t K forms sizes items) (hs : s < 4) (hz : sizes s = nI n) (hn : n ≤ 60) (hro : K.ro s = some q) (fq : K.f q = .inl (t (sT fm), n, .inl g)) (hg : ∀ i, i < n → g' i = items' (60 * s + i)) (ho : ∀ u i, u ≠ s → i < 60 → items' (60 * u + i) = items (60 * u + i)) : ShtOk t (K.put q (.inl (t (sT fm), n, .inl g'))) forms sizes items' := by
  refine ⟨fun u hu => ?_, h.2⟩
  rcases h.1 u hu with ⟨h1, h2⟩ | ⟨fm2, n2, g2, h1, h2, ⟨h3, h4, h5, q2, h6, h7, h8⟩, h9⟩
  · exact Or.inl ⟨h1, h2⟩
  · by_cases hus : u = s
    · subst hus
      have eq : q2 = q := Option.some.inj (h6.symm.trans hro)
      rw [eq] at h6 h7 h8
      have en : n2 = n := by
        have := h2.symm.trans hz
        have a1 := tn_nI (show n2 < 2 ^ 31 by omega)
        rw [this, tn_nI (by omega)] at a1
        exact a1.symm
      subst en
      have e1 := h8.symm.trans fq
      have e2 : t (sT fm2) = t (sT fm) := by injection e1 with e1; injection e1
      exact Or.inr ⟨fm2, n2, g', h1, h2, ⟨h3, h4, h5, q, h6, h7, by rw [e2]; exact va_up_self _ _ _⟩, hg⟩
    · have hq : q2 ≠ q := fun e => hus (h.2 u s q hu hs (by rw [← e]; exact h6) hro)
      exact Or.inr ⟨fm2, n2, g2, h1, h2, ⟨h3, h4, h5, q2, h6, h7, (va_up_ne _ _ hq).trans h8⟩, fun i hi => (h9 i hi).trans (ho u i hus (by omega)).symm⟩
theorem sht_lose {t : Nat → ClassId} {K : XK} {forms sizes items : Nat → Int32} {s : Nat} (h : ShtOk t K forms sizes items) : ShtOk t (K.row s none) (upd forms s (-1)) sizes items := by
  refine ⟨fun u hu => ?_, fun u w q hu hw h1 h2 => ?_⟩
  · by_cases hus : u = s
    · subst hus
      exact Or.inl ⟨upd_eq _ _ _, va_up_self _ _ _⟩
    · rcases h.1 u hu with ⟨h1, h2⟩ | ⟨fm, n, g, h1, h2, ⟨h3, h4, h5, q, h6, h7⟩, h9⟩
      · exact Or.inl ⟨(upd_nej _ _ hus).trans h1, (va_up_ne _ _ hus).trans h2⟩
      · exact Or.inr ⟨fm, n, g, (upd_nej _ _ hus).trans h1, h2, ⟨h3, h4, h5, q, (va_up_ne _ _ hus).trans h6, h7⟩, h9⟩
  · have g1 : u ≠ s := fun e => by
      have h3 : va_up K.ro s none u = some q := h1
      rw [e, va_up_self] at h3; cases h3
    have g2 : w ≠ s := fun e => by
      have h3 : va_up K.ro s none w = some q := h2
      rw [e, va_up_self] at h3; cases h3
    exact h.2 u w q hu hw ((va_up_ne _ _ g1).symm.trans h1) ((va_up_ne _ _ g2).symm.trans h2)
def wrX (fm : Int32) (su : Nat → Int32) (n : Nat) (g : Nat → Int32) : Nat → Int32 := fz (fun p g => upd g p (cutF fm (su p))) n g
theorem wrX_0 (fm : Int32) (su : Nat → Int32) (g : Nat → Int32) : wrX fm su 0 g = g := rfl
theorem wrX_s (fm : Int32) (su : Nat → Int32) (n : Nat) (g : Nat → Int32) : wrX fm su (n + 1) g = upd (wrX fm su n g) n (cutF fm (su n)) := rfl
theorem wr_same {fm : Int32} {su : Nat → Int32} {s : Nat} {g items : Nat → Int32} {z : Nat} (hg : ∀ i, i < z → g i = items (60 * s + i)) : ∀ n, ∀ i, i < z → wrX fm su n g i = writeF s fm su n items (60 * s + i) := by
  intro n
  induction n with
  | zero => exact hg
  | succ n ih =>
    intro i hi
    show upd (wrX fm su n g) n (cutF fm (su n)) i = upd (writeF s fm su n items) (60 * s + n) (cutF fm (su n)) (60 * s + i)
    by_cases h : i = n
    · subst h; rw [upd_eq, upd_eq]
    · rw [upd_nej _ _ h, upd_nej _ _ (by omega), ih i hi]
theorem wr_else {fm : Int32} {su : Nat → Int32} {s : Nat} {items : Nat → Int32} : ∀ n, n ≤ 60 → ∀ u i, u ≠ s → i < 60 → writeF s fm su n items (60 * u + i) = items (60 * u + i) := by
  intro n
  induction n with
  | zero => intro _ u i _ _; rfl
  | succ n ih =>
    intro hn u i hu hi
    show upd (writeF s fm su n items) (60 * s + n) (cutF fm (su n)) (60 * u + i) = _
    rw [upd_nej _ _ (by omega), ih (by omega) u i hu hi]
theorem min_n {many : Nat → Int32} (hM : Mok many) {z : Nat} (hz : z ≤ 60) : minX (many 1) (nI z) = nI (min z (nK many 1)) := by
  rw [Nat.min_comm]
  have h := (hM 1 (by decide)).2
  have hmx : mxK 1 = 8 := rfl
  unfold minX
  rw [(hM 1 (by decide)).1]
  by_cases h8 : z < nK many 1
  · rw [if_pos (nI_lt h8 (by omega)), Nat.min_eq_right (by omega)]
  · rw [if_neg (nI_nlt (by omega) (by omega)), Nat.min_eq_left (by omega)]
/-! seeing: as the model does, where directions are small -/
abbrev B3 (v : T3) : Prop := rng v.1 (-100) 100 ∧ rng v.2.1 (-100) 100 ∧ rng v.2.2 (-100) 100
theorem rng_neg {x : Int32} (h : rng x (-100) 100) : rng (-x) (-100) 100 := by
  have h1 : -100 ≤ x.toInt := h.1
  have h2 : x.toInt ≤ 100 := h.2
  have e : (-x).toInt = -x.toInt := by
    rw [Int32.toInt_neg]
    exact Int.bmod_eq_of_le (by omega) (by omega)
  show -100 ≤ (-x).toInt ∧ (-x).toInt ≤ 100
  omega
theorem rot_B (f : T3 → T3) (hf : ∀ v, B3 v → B3 (f v)) {v : T3} (h : B3 v) : ∀ n, B3 (fz (fun _ => f) n v) := by
  intro n
  induction n with
  | zero => exact h
  | succ n ih => rw [fz_s]; exact hf _ ih
theorem rotF_B {x y z : Int32} (h : B3 (x, y, z)) (a b c : Nat) : B3 (rotF x y z a b c) :=
  rot_B rotZ (fun _ h => ⟨rng_neg h.2.1, h.1, h.2.2⟩) (rot_B rotY (fun _ h => ⟨h.2.2, h.2.1, rng_neg h.1⟩) (rot_B rotX (fun _ h => ⟨h.1, rng_neg h.2.2, h.2.1⟩) h a) b) c
theorem clamp_B {x : Int32} (h : rng x (-100) 100) : lesF (greF x (-100)) 100 = x := by
  have h1 : -100 ≤ x.toInt := h.1
  have h2 : x.toInt ≤ 100 := h.2
  have c1 : (100 : Int32).toInt = 100 := by decide
  have c2 : (-100 : Int32).toInt = -100 := by decide
  have e : greF x (-100) = x := by
    unfold greF
    by_cases g : (-100 : Int32) < x
    · rw [if_pos g]
    · rw [if_neg g]
      rw [Int32.lt_iff_toInt_lt, c2] at g
      exact Int32.toInt_inj.mp (by rw [c2]; omega)
  rw [e]
  unfold lesF
  by_cases g : x < 100
  · rw [if_pos g]
  · rw [if_neg g]
    rw [Int32.lt_iff_toInt_lt, c1] at g
    exact Int32.toInt_inj.mp (by rw [c1]; omega)
theorem nsX_eq {d m : Int32} {v : T3} (h : B3 v) : nsX d v m = noise3 d v m := by
  unfold nsX
  by_cases hm : m = 0
  · rw [if_pos hm]
    unfold noise3 noisyF
    simp only [if_pos hm]
    rw [clamp_B h.1, clamp_B h.2.1, clamp_B h.2.2]
  · rw [if_neg hm]
theorem seesX_eq {i a b c : Nat} {m : Int32} {s : (Nat → Int32) × Int32} (h : B3 (s.1 (36 * 0 + 3 * i + 0), s.1 (36 * 0 + 3 * i + 1), s.1 (36 * 0 + 3 * i + 2))) : seesX i a b c m s = seesF i a b c m s := by
  unfold seesX seesF
  rw [nsX_eq (rotF_B h a b c)]
theorem seesF_lo (i a b c : Nat) (m : Int32) (s : (Nat → Int32) × Int32) {j : Nat} (hj : j < 36) : (seesF i a b c m s).1 j = s.1 j := lays_ne _ _ _ _ _ _ (by omega)
theorem seeF_lo (a b c : Nat) (m : Int32) (s : (Nat → Int32) × Int32) {j : Nat} (hj : j < 36) : ∀ n, (seeF n a b c m s).1 j = s.1 j := by
  intro n
  induction n with
  | zero => rfl
  | succ n ih =>
    have e : seeF (n + 1) a b c m s = seesF n a b c m (seeF n a b c m s) := by unfold seeF; exact fz_s _ _ _
    rw [e, seesF_lo _ _ _ _ _ _ hj, ih]
theorem seeX_eq {a b c : Nat} {m : Int32} {s : (Nat → Int32) × Int32} : ∀ n, n ≤ 12 → (∀ i, i < n → B3 (s.1 (36 * 0 + 3 * i + 0), s.1 (36 * 0 + 3 * i + 1), s.1 (36 * 0 + 3 * i + 2))) → seeX n a b c m s = seeF n a b c m s := by
  intro n
  induction n with
  | zero => intro _ _; rfl
  | succ n ih =>
    intro hn h
    have e : seeF (n + 1) a b c m s = seesF n a b c m (seeF n a b c m s) := by unfold seeF; exact fz_s _ _ _
    rw [e, seeX_s, ih (by omega) (fun i hi => h i (by omega))]
    refine seesX_eq ?_
    rw [seeF_lo a b c m s (by omega) n, seeF_lo a b c m s (by omega) n, seeF_lo a b c m s (by omega) n]
    exact h n (by omega)
