/-! the tracker: new bodies -/
/-! the pool grows -/
abbrev XK.push (K : XK) (q : Nat) (e : va_E) : XK := (K.rs, K.rp, K.rt, K.fo, K.ro, K.L ++ [q], va_up K.f q e)
abbrev XK.put (K : XK) (q : Nat) (e : va_E) : XK := (K.rs, K.rp, K.rt, K.fo, K.ro, K.L, va_up K.f q e)
abbrev XK.bod (K : XK) (k : Nat) (f : Nat → Option Nat) : XK := if k = 0 then (f, K.rp, K.rt, K.fo, K.ro, K.L, K.f) else (K.rs, f, K.rt, K.fo, K.ro, K.L, K.f)
section XKW
variable {t : Nat → ClassId} {a : Nat → Nat} {K : XK} {many : (Nat → Int32)} {settings : (Nat → Int32)} {isVoted : Int32} {lotsNow : Int32} {seen : (Nat → Int32)} {keyOne : (Nat → Int32)} {keyTwo : (Nat → Int32)} {votes : (Nat → Int32)} {looked : Int32} {matched : Int32} {without : Int32} {trio : (Nat → Int32)} {takenStar : (Nat → Int32)} {takenAs : (Nat → Int32)} {takenSpot : (Nat → Int32)} {pairs : Int32} {starArms : (Nat → Int64)} {spotArms : (Nat → Int64)} {isTurn : Int32} {places : (Nat → Int32)} {byStar : (Nat → Int32)} {byFar : (Nat → Int32)} {one : (Nat → Int64)} {usedNow : (Nat → Int32)} {laidMany : (Nat → Int32)} {finding : Int32}
theorem xx_push {q : Nat} {e : va_E} (h : q ∉ K.L) : (Xx t a K many settings isVoted lotsNow seen keyOne keyTwo votes looked matched without trio takenStar takenAs takenSpot pairs starArms spotArms isTurn places byStar byFar one usedNow laidMany finding) ++ [(q, e)] = Xx t a (K.push q e) many settings isVoted lotsNow seen keyOne keyTwo votes looked matched without trio takenStar takenAs takenSpot pairs starArms spotArms isTurn places byStar byFar one usedNow laidMany finding := by
  show (Xc t a K many settings isVoted lotsNow seen keyOne keyTwo votes looked matched without trio takenStar takenAs takenSpot pairs starArms spotArms isTurn places byStar byFar one usedNow laidMany finding ++ va_pl K.L K.f) ++ [(q, e)] = _
  rw [List.append_assoc, va_pl_push h]
  rfl
theorem xx_fresh {A : Nat → Prop} {q : Nat} {e : va_E} (h : va_D A ((Xx t a K many settings isVoted lotsNow seen keyOne keyTwo votes looked matched without trio takenStar takenAs takenSpot pairs starArms spotArms isTurn places byStar byFar one usedNow laidMany finding) ++ [(q, e)])) : q ∉ K.L := va_pl_fresh2 (X := Xc t a K many settings isVoted lotsNow seen keyOne keyTwo votes looked matched without trio takenStar takenAs takenSpot pairs starArms spotArms isTurn places byStar byFar one usedNow laidMany finding) (f := K.f) h
theorem xx_place {q : Nat} (h : q ∈ K.L) : ∃ j : Nat, (Xx t a K many settings isVoted lotsNow seen keyOne keyTwo votes looked matched without trio takenStar takenAs takenSpot pairs starArms spotArms isTurn places byStar byFar one usedNow laidMany finding)[j]? = some (q, K.f q) ∧ ∀ (A : Nat → Prop) (e : va_E), va_D A (Xx t a K many settings isVoted lotsNow seen keyOne keyTwo votes looked matched without trio takenStar takenAs takenSpot pairs starArms spotArms isTurn places byStar byFar one usedNow laidMany finding) → (Xx t a K many settings isVoted lotsNow seen keyOne keyTwo votes looked matched without trio takenStar takenAs takenSpot pairs starArms spotArms isTurn places byStar byFar one usedNow laidMany finding).set j (q, e) = Xx t a (K.put q e) many settings isVoted lotsNow seen keyOne keyTwo votes looked matched without trio takenStar takenAs takenSpot pairs starArms spotArms isTurn places byStar byFar one usedNow laidMany finding := by
  obtain ⟨j, hj⟩ := va_pl_get (X := Xc t a K many settings isVoted lotsNow seen keyOne keyTwo votes looked matched without trio takenStar takenAs takenSpot pairs starArms spotArms isTurn places byStar byFar one usedNow laidMany finding) (f := K.f) h
  exact ⟨j, hj, fun A e hD => (va_pl_set (X := Xc t a K many settings isVoted lotsNow seen keyOne keyTwo votes looked matched without trio takenStar takenAs takenSpot pairs starArms spotArms isTurn places byStar byFar one usedNow laidMany finding) hD h hj).trans rfl⟩
theorem xD_of {A : Nat → Prop} (h : va_D A (Xx t a K many settings isVoted lotsNow seen keyOne keyTwo votes looked matched without trio takenStar takenAs takenSpot pairs starArms spotArms isTurn places byStar byFar one usedNow laidMany finding)) : XD A a K.L := by
  have e : ∀ (k x : Nat), (Xa a K.L)[k]? = some x → ∃ q : Nat × va_E, (Xx t a K many settings isVoted lotsNow seen keyOne keyTwo votes looked matched without trio takenStar takenAs takenSpot pairs starArms spotArms isTurn places byStar byFar one usedNow laidMany finding)[k]? = some q ∧ q.1 = x := by
    intro k x hx
    rw [← xx_adr (t := t) (a := a) (K := K) (many := many) (settings := settings) (isVoted := isVoted) (lotsNow := lotsNow) (seen := seen) (keyOne := keyOne) (keyTwo := keyTwo) (votes := votes) (looked := looked) (matched := matched) (without := without) (trio := trio) (takenStar := takenStar) (takenAs := takenAs) (takenSpot := takenSpot) (pairs := pairs) (starArms := starArms) (spotArms := spotArms) (isTurn := isTurn) (places := places) (byStar := byStar) (byFar := byFar) (one := one) (usedNow := usedNow) (laidMany := laidMany) (finding := finding), List.getElem?_map] at hx
    cases hq : (Xx t a K many settings isVoted lotsNow seen keyOne keyTwo votes looked matched without trio takenStar takenAs takenSpot pairs starArms spotArms isTurn places byStar byFar one usedNow laidMany finding)[k]? with
    | none => rw [hq] at hx; cases hx
    | some q => rw [hq] at hx; exact ⟨q, rfl, Option.some.inj hx⟩
  refine ⟨fun i j x hi hj => ?_, fun x hx => ?_⟩
  · obtain ⟨p, hp, rfl⟩ := e i x hi
    obtain ⟨q, hq, e2⟩ := e j _ hj
    exact h.1 i j p q hp hq e2.symm
  · obtain ⟨k, hk⟩ := List.getElem?_of_mem hx
    obtain ⟨p, hp, rfl⟩ := e k x hk
    exact h.2 k p hp
theorem xs_bodies0 (v : Nat → Option Nat) : (Xx t a K many settings isVoted lotsNow seen keyOne keyTwo votes looked matched without trio takenStar takenAs takenSpot pairs starArms spotArms isTurn places byStar byFar one usedNow laidMany finding).set 6 (a 6, .inl (t 5, 12, .inr (.inr (.inr (.inr v))))) = Xx t a (K.bod 0 v) many settings isVoted lotsNow seen keyOne keyTwo votes looked matched without trio takenStar takenAs takenSpot pairs starArms spotArms isTurn places byStar byFar one usedNow laidMany finding := (xx_set (by decide) _).trans rfl
theorem xs_bodies1 (v : Nat → Option Nat) : (Xx t a K many settings isVoted lotsNow seen keyOne keyTwo votes looked matched without trio takenStar takenAs takenSpot pairs starArms spotArms isTurn places byStar byFar one usedNow laidMany finding).set 7 (a 7, .inl (t 5, 8, .inr (.inr (.inr (.inr v))))) = Xx t a (K.bod 1 v) many settings isVoted lotsNow seen keyOne keyTwo votes looked matched without trio takenStar takenAs takenSpot pairs starArms spotArms isTurn places byStar byFar one usedNow laidMany finding := (xx_set (by decide) _).trans rfl
end XKW
/-- the pool grown: what was is -/
def Grw (K K' : XK) : Prop := K'.rt = K.rt ∧ K'.fo = K.fo ∧ K'.ro = K.ro ∧ ∀ q, q ∈ K.L → q ∈ K'.L ∧ K'.f q = K.f q
theorem Grw.rf (K : XK) : Grw K K := ⟨rfl, rfl, rfl, fun _ h => ⟨h, rfl⟩⟩
theorem Grw.trans {K K1 K2 : XK} (h : Grw K K1) (g : Grw K1 K2) : Grw K K2 := ⟨g.1.trans h.1, g.2.1.trans h.2.1, g.2.2.1.trans h.2.2.1, fun q hq => ⟨(g.2.2.2 q (h.2.2.2 q hq).1).1, (g.2.2.2 q (h.2.2.2 q hq).1).2.trans (h.2.2.2 q hq).2⟩⟩
theorem TryOk.grow {t : Nat → ClassId} {K K' : XK} {tray lm holds : Nat → Int32} (h : TryOk t K tray lm holds) (g : Grw K K') : TryOk t K' tray lm holds := by
  refine ⟨h.1, fun j hj => ?_⟩
  obtain ⟨q, u, h1, h2, h3, h4⟩ := h.2 j hj
  refine ⟨q, u, by rw [g.1]; exact h1, (g.2.2.2 q h2).1, (g.2.2.2 q h2).2.trans h3, fun i hi => ?_⟩
  obtain ⟨k, b, g1, g2, g3, g4, g5⟩ := h4 i hi
  exact ⟨k, b, g1, g2, g3, (g.2.2.2 b g4).1, (g.2.2.2 b g4).2.trans g5⟩
def GrX (A : Nat → Prop) (a : Nat → Nat) (K K' : XK) (dir many : Nat → Int32) : Prop := XD A a K'.L ∧ Grw K K' ∧ BodOk K' dir many
abbrev KpX (K : XK) (k n q : Nat) (e : va_E) : XK := ((K.push q (.inr (4 + k, [.int 0, .int 0, .int 0]))).put q e).bod k (va_up (K.rk k) n (some q))
theorem upd_eq (f : Nat → Int32) (k : Nat) (v : Int32) : upd f k v k = v := if_pos rfl
theorem upd_nej (f : Nat → Int32) {k j : Nat} (v : Int32) (h : j ≠ k) : upd f k v j = f j := if_neg h
theorem lays_0 (d : Nat → Int32) (b : Nat) (x y z : Int32) : laysF d b x y z b = x ∧ laysF d b x y z (b + 1) = y ∧ laysF d b x y z (b + 2) = z := by
  unfold laysF
  refine ⟨?_, ?_, ?_⟩
  · rw [upd_nej _ _ (by omega), upd_nej _ _ (by omega), upd_eq]
  · rw [upd_nej _ _ (by omega), upd_eq]
  · rw [upd_eq]
theorem lays_ne (d : Nat → Int32) (b j : Nat) (x y z : Int32) (h : j < b ∨ b + 2 < j) : laysF d b x y z j = d j := by
  unfold laysF
  rw [upd_nej _ _ (by omega), upd_nej _ _ (by omega), upd_nej _ _ (by omega)]
theorem nK_inc {many : Nat → Int32} (hM : Mok many) {k : Nat} (hk : k < 2) (j : Nat) : nK (upd many k (many k + 1)) j = if j = k then nK many k + 1 else nK many j := by
  by_cases h : j = k
  · subst h
    rw [if_pos rfl]
    show (upd many j (many j + 1) j).toNatClampNeg = _
    have := hM j hk
    have := mx_le hk
    rw [upd_eq, (hM j hk).1, ← nI_succ, tn_nI (by omega)]
  · rw [if_neg h]
    show (upd many k (many k + 1) j).toNatClampNeg = _
    rw [upd_nej _ _ h]
theorem keeps_ok {A : Nat → Prop} {a : Nat → Nat} {K : XK} {dir many : Nat → Int32} {k q : Nat} {x y z : Int32} (hM : Mok many) (hB : BodOk K dir many) (hk : k < 2) (hn : nK many k < mxK k) (hq : q ∉ K.L) (hD : XD A a (K.L ++ [q])) : GrX A a K (KpX K k (nK many k) q (.inr (4 + k, [.int x, .int y, .int z]))) (laysF dir (36 * k + 3 * nK many k) x y z) (upd many k (many k + 1)) := by
  have eL : (KpX K k (nK many k) q (.inr (4 + k, [.int x, .int y, .int z]))).L = K.L ++ [q] := by
    unfold KpX XK.bod; split <;> rfl
  have ef : ∀ u, (KpX K k (nK many k) q (.inr (4 + k, [.int x, .int y, .int z]))).f u = if u = q then .inr (4 + k, [.int x, .int y, .int z]) else K.f u := by
    intro u
    have : (KpX K k (nK many k) q (.inr (4 + k, [.int x, .int y, .int z]))).f u = va_up (va_up K.f q (.inr (4 + k, [.int 0, .int 0, .int 0]))) q (.inr (4 + k, [.int x, .int y, .int z])) u := by
      unfold KpX XK.bod; split <;> rfl
    rw [this]
    by_cases h : u = q
    · rw [h, va_up_self, if_pos rfl]
    · rw [va_up_ne _ _ h, va_up_ne _ _ h, if_neg h]
  have er : ∀ k' i, k' < 2 → (KpX K k (nK many k) q (.inr (4 + k, [.int x, .int y, .int z]))).rk k' i = if k' = k ∧ i = nK many k then some q else K.rk k' i := by
    intro k' i hk'
    rcases (show k = 0 ∨ k = 1 by omega) with rfl | rfl <;> rcases (show k' = 0 ∨ k' = 1 by omega) with rfl | rfl
    · show va_up K.rs (nK many 0) (some q) i = _
      by_cases h : i = nK many 0
      · rw [h, va_up_self, if_pos ⟨rfl, rfl⟩]
      · rw [va_up_ne _ _ h, if_neg (fun u => h u.2)]; rfl
    · rw [if_neg (fun u => absurd u.1 (by decide))]; rfl
    · rw [if_neg (fun u => absurd u.1 (by decide))]; rfl
    · show va_up K.rp (nK many 1) (some q) i = _
      by_cases h : i = nK many 1
      · rw [h, va_up_self, if_pos ⟨rfl, rfl⟩]
      · rw [va_up_ne _ _ h, if_neg (fun u => h u.2)]; rfl
  refine ⟨by rw [eL]; exact hD, ⟨?_, ?_, ?_, fun u hu => ⟨by rw [eL]; exact List.mem_append_left _ hu, ?_⟩⟩, fun k' i hk' hi => ?_⟩
  · unfold KpX XK.bod; split <;> rfl
  · unfold KpX XK.bod; split <;> rfl
  · unfold KpX XK.bod; split <;> rfl
  · rw [ef, if_neg (fun h => hq (by rw [← h]; exact hu))]
  · rw [nK_inc hM hk] at hi
    by_cases h : k' = k ∧ i = nK many k
    · obtain ⟨rfl, rfl⟩ := h
      refine ⟨q, by rw [er _ _ hk', if_pos ⟨rfl, rfl⟩], by rw [eL]; exact List.mem_append_right _ (List.mem_singleton.mpr rfl), ?_⟩
      obtain ⟨l0, l1, l2⟩ := lays_0 dir (36 * k' + 3 * nK many k') x y z
      rw [ef, if_pos rfl, l0, l1, l2]
    · have hi' : i < nK many k' := by
        by_cases e : k' = k
        · rw [if_pos e] at hi
          have : ¬ i = nK many k := fun u => h ⟨e, u⟩
          subst e
          omega
        · rw [if_neg e] at hi; exact hi
      obtain ⟨u, g1, g2, g3⟩ := hB k' i hk' hi'
      refine ⟨u, by rw [er _ _ hk', if_neg h]; exact g1, by rw [eL]; exact List.mem_append_left _ g2, ?_⟩
      have b1 := lt_mx hM hk' hi'
      have b2 : ∀ j, j < 2 → mxK j ≤ 12 := fun j hj => by rcases (show j = 0 ∨ j = 1 by omega) with rfl | rfl <;> decide
      have b3 := b2 k' hk'
      have b4 := b2 k hk
      have ne : ∀ c, c < 3 → (36 * k' + 3 * i + c < 36 * k + 3 * nK many k ∨ 36 * k + 3 * nK many k + 2 < 36 * k' + 3 * i + c) := by
        intro c hc
        by_cases e : k' = k
        · subst e; have : ¬ i = nK many k' := fun u => h ⟨rfl, u⟩; omega
        · omega
      rw [ef, if_neg (fun e => hq (by rw [← e]; exact g2)), lays_ne _ _ (36 * k' + 3 * i) _ _ _ (ne 0 (by decide)), lays_ne _ _ _ _ _ _ (ne 1 (by decide)), lays_ne _ _ _ _ _ _ (ne 2 (by decide))]
      exact g3
/-! new bodies -/
def nPr (G : va_G) (t : Nat → ClassId) (A : Nat → Prop) (ws : va_W) : State → Prop := fun U => va_P G vwCl ws U.heap ∧ va_K G vwCl (Tys t) U ∧ va_D A ws ∧ (∀ q, U.heap.size ≤ q → A q)
theorem nPr_fb {G : va_G} {t : Nat → ClassId} {A : Nat → Prop} {ws : va_W} {av : List Value} : FrameBlind (va_Pc av (nPr G t A ws)) := fun x U g mk q => ⟨q.1, q.2.1, va_K.moved (u := U) (U := U.calling g mk x) (Vm.Alike.refl U.vm) q.2.2.1, q.2.2.2⟩
theorem nPr_of {G : va_G} {t : Nat → ClassId} {A : Nat → Prop} {ws : va_W} {s U : State} {H H0 : Heap} {locs : List Loc} (hP : va_P G vwCl ws H) (hK : va_K G vwCl (Tys t) s) (hD : va_D A ws) (hS : va_S A H0 H locs) (hA : ∀ q, H0.size ≤ q → A q) (hU : U.heap = H) (hW : s.WarmedH U.vm) : nPr G t A ws U :=
  ⟨by rw [hU]; exact hP, va_K.moved hW.alike hK, hD, fun q hq => hA q (Nat.le_trans hS.1 (by rw [← hU]; exact hq))⟩
def tyB : Nat → FieldType := fun _ => .int
theorem tyB5 : ∀ k, k < 3 → parseFieldDescriptor (TX5 k).2.2.1 = some (tyB k) := by decide +kernel
theorem tyB6 : ∀ k, k < 3 → parseFieldDescriptor (TX6 k).2.2.1 = some (tyB k) := by decide +kernel
theorem dv3 : ∀ j, j < 3 → defaultValue (tyB j) = vp_V [.int 0, .int 0, .int 0] j := fun j hj => by
  match j, hj with
  | 0, _ => rfl
  | 1, _ => rfl
  | 2, _ => rfl
  | j + 3, h => exact absurd h (by omega)
set_option maxHeartbeats 4000000 in
theorem mx_binit5 (l : Launch) (G : va_G) (t : Nat → ClassId) (A : Nat → Prop) (ws : va_W) (j q : Nat) (x y z : Int32) (hj : ws[j]? = some (q, .inr (4, [.int 0, .int 0, .int 0]))) : Met l yX4_init (ws_ yX4_init cX4_init 4 none) (rm_ 0 1 0 0) (va_Pc [.ref q, .int x, .int y, .int z] (nPr G t A ws)) (va_Qv (fun (_ : Unit) => True) (mB G (fun _ => ws.set j (q, .inr (4, [.int x, .int y, .int z])))) A) 0 0 A := by
  refine mkx_W (by decide) (Nat.le_of_ble_eq_true rfl) ?_
  intro p e s m below meth c ls hx hb hml hr hlk hts hown hnm hv hl
  obtain ⟨hP, hK, hD, hA⟩ := hv
  have hS : va_S A s.heap s.heap [] := va_S.rf
  have hl : lv_has ls 4 [(0, .ref q), (1, .int x), (2, .int y), (3, .int z)] := hl
  have hjl : j < ws.length := (List.getElem?_eq_some_iff.mp hj).1
  refine lv_aload_n hx hb dX4_init_0 rfl (lv_at hl 0 rfl) ?_
  refine W.objInit hx hb hown (hts _ q131) (hts _ q132) (hts _ q133) rfl (by rw [hml]; exact hl.1) rfl dX4_init_1 (Nat.le_of_ble_eq_true rfl) (Nat.le_of_ble_eq_true rfl) ?_
  refine lv_aload_n hx hb dX4_init_4 rfl (lv_at hl 0 rfl) ?_
  refine lv_iload_n hx hb dX4_init_5 rfl (lv_at hl 1 rfl) ?_
  refine va_putF (D := G) (ci := 4) (v := .int x) (ty := .int) (C := RX5) (T := TX5) (N := 3) hx hb hts in_X5 tyB tyB5 nmX5 hown hK hP hD hS j hj rfl 0 (by decide) (hts _ q134) (fun _ h => h) rfl hnm.2 rfl (by decide +kernel) rfl rfl (Nat.le_of_ble_eq_true rfl) dX4_init_6 (fun H locs hP hD hS => ?_)
  have hP : va_P G vwCl (ws.set j (q, .inr (4, [.int x, .int 0, .int 0]))) H := hP
  have hD : va_D A (ws.set j (q, .inr (4, [.int x, .int 0, .int 0]))) := hD
  have hj0 : (ws.set j (q, .inr (4, [.int x, .int 0, .int 0])))[j]? = some (q, .inr (4, [.int x, .int 0, .int 0])) := List.getElem?_set_self hjl
  refine lv_aload_n hx hb dX4_init_9 rfl (lv_at hl 0 rfl) ?_
  refine lv_iload_n hx hb dX4_init_10 rfl (lv_at hl 2 rfl) ?_
  refine va_putF (D := G) (ci := 4) (v := .int y) (ty := .int) (C := RX5) (T := TX5) (N := 3) hx hb hts in_X5 tyB tyB5 nmX5 hown hK hP hD hS j hj0 rfl 1 (by decide) (hts _ q135) (fun _ h => h) rfl hnm.2 rfl (by decide +kernel) rfl rfl (Nat.le_of_ble_eq_true rfl) dX4_init_11 (fun H locs hP hD hS => ?_)
  have hP : va_P G vwCl (ws.set j (q, .inr (4, [.int x, .int y, .int 0]))) H := by rw [List.set_set] at hP; exact hP
  have hD : va_D A (ws.set j (q, .inr (4, [.int x, .int y, .int 0]))) := by rw [List.set_set] at hD; exact hD
  have hj1 : (ws.set j (q, .inr (4, [.int x, .int y, .int 0])))[j]? = some (q, .inr (4, [.int x, .int y, .int 0])) := List.getElem?_set_self hjl
  refine lv_aload_n hx hb dX4_init_14 rfl (lv_at hl 0 rfl) ?_
  refine lv_iload_n hx hb dX4_init_15 rfl (lv_at hl 3 rfl) ?_
  refine va_putF (D := G) (ci := 4) (v := .int z) (ty := .int) (C := RX5) (T := TX5) (N := 3) hx hb hts in_X5 tyB tyB5 nmX5 hown hK hP hD hS j hj1 rfl 2 (by decide) (hts _ q136) (fun _ h => h) rfl hnm.2 rfl (by decide +kernel) rfl rfl (Nat.le_of_ble_eq_true rfl) dX4_init_16 (fun H locs hP hD hS => ?_)
  have hP : va_P G vwCl (ws.set j (q, .inr (4, [.int x, .int y, .int z]))) H := by rw [List.set_set] at hP; exact hP
  have hD : va_D A (ws.set j (q, .inr (4, [.int x, .int y, .int z]))) := by rw [List.set_set] at hD; exact hD
  have hj2 : (ws.set j (q, .inr (4, [.int x, .int y, .int z])))[j]? = some (q, .inr (4, [.int x, .int y, .int z])) := List.getElem?_set_self hjl
  exact W.vret hx hb hr (fun tt ht _ => ⟨⟨(), rfl, trivial, (show va_P G vwCl (ws.set j (q, .inr (4, [.int x, .int y, .int z]))) tt.heap from by rw [ht]; exact hP)⟩, hS.F ht⟩) hS.2.2 dX4_init_19 hlk
set_option maxHeartbeats 4000000 in
theorem mx_init5 (l : Launch) (G : va_G) (t : Nat → ClassId) (A : Nat → Prop) (ws : va_W) (j q : Nat) (x y z : Int32) (hj : ws[j]? = some (q, .inr (4, [.int 0, .int 0, .int 0]))) : Met l yX5_init (ws_ yX5_init cX5_init 4 none) (rm_ 0 2 0 0) (va_Pc [.ref q, .int x, .int y, .int z] (nPr G t A ws)) (va_Qv (fun (_ : Unit) => True) (mB G (fun _ => ws.set j (q, .inr (4, [.int x, .int y, .int z])))) A) 0 0 A := by
  refine mkx_W (by decide) (Nat.le_of_ble_eq_true rfl) ?_
  intro p e s m below meth c ls hx hb hml hr hlk hts hown hnm hv hl
  obtain ⟨hP, hK, hD, hA⟩ := hv
  have hS : va_S A s.heap s.heap [] := va_S.rf
  have hl : lv_has ls 4 [(0, .ref q), (1, .int x), (2, .int y), (3, .int z)] := hl
  refine lv_aload_n hx hb dX5_init_0 rfl (lv_at hl 0 rfl) ?_
  refine lv_iload_n hx hb dX5_init_1 rfl (lv_at hl 1 rfl) ?_
  refine lv_iload_n hx hb dX5_init_2 rfl (lv_at hl 2 rfl) ?_
  refine lv_iload_n hx hb dX5_init_3 rfl (lv_at hl 3 rfl) ?_
  refine va_callv (va_runI (As := [.int x, .int y, .int z]) (rest := []) ⟨hx, hb, hml, hown, hts⟩ (mx_binit5 l G t A ws j q x y z hj) (cwI 3 hts (lw_meth q130) rfl rfl rfl (hts _ q84) (hts _ q128) (hts _ q129) rfl (by decide +kernel) ⟨Nat.le_of_ble_eq_true rfl, Nat.le_of_ble_eq_true rfl⟩) ⟨nPr_fb, fun U hU hW => ⟨rfl, nPr_of hP hK hD hS hA hU hW⟩⟩ rfl rfl hl.1 rfl (lv_room (Nat.le_of_ble_eq_true rfl)) dX5_init_4 ⟨Nat.le_of_ble_eq_true rfl, Nat.le_of_ble_eq_true rfl⟩) hS (fun _ _ h => h) (fun _ h => h) (fun u tt H locs ht _ hq hP _ hkp hS => ?_)
  have hP : va_P G vwCl (ws.set j (q, .inr (4, [.int x, .int y, .int z]))) H := by rw [← ht]; exact hP
  exact W.vret hx hb hr (fun tt ht _ => ⟨⟨(), rfl, trivial, (show va_P G vwCl (ws.set j (q, .inr (4, [.int x, .int y, .int z]))) tt.heap from by rw [ht]; exact hP)⟩, hS.F ht⟩) hS.2.2 dX5_init_7 hlk
set_option maxHeartbeats 4000000 in
theorem mx_binit6 (l : Launch) (G : va_G) (t : Nat → ClassId) (A : Nat → Prop) (ws : va_W) (j q : Nat) (x y z : Int32) (hj : ws[j]? = some (q, .inr (5, [.int 0, .int 0, .int 0]))) : Met l yX4_init (ws_ yX4_init cX4_init 4 none) (rm_ 0 1 0 0) (va_Pc [.ref q, .int x, .int y, .int z] (nPr G t A ws)) (va_Qv (fun (_ : Unit) => True) (mB G (fun _ => ws.set j (q, .inr (5, [.int x, .int y, .int z])))) A) 0 0 A := by
  refine mkx_W (by decide) (Nat.le_of_ble_eq_true rfl) ?_
  intro p e s m below meth c ls hx hb hml hr hlk hts hown hnm hv hl
  obtain ⟨hP, hK, hD, hA⟩ := hv
  have hS : va_S A s.heap s.heap [] := va_S.rf
  have hl : lv_has ls 4 [(0, .ref q), (1, .int x), (2, .int y), (3, .int z)] := hl
  have hjl : j < ws.length := (List.getElem?_eq_some_iff.mp hj).1
  refine lv_aload_n hx hb dX4_init_0 rfl (lv_at hl 0 rfl) ?_
  refine W.objInit hx hb hown (hts _ q131) (hts _ q132) (hts _ q133) rfl (by rw [hml]; exact hl.1) rfl dX4_init_1 (Nat.le_of_ble_eq_true rfl) (Nat.le_of_ble_eq_true rfl) ?_
  refine lv_aload_n hx hb dX4_init_4 rfl (lv_at hl 0 rfl) ?_
  refine lv_iload_n hx hb dX4_init_5 rfl (lv_at hl 1 rfl) ?_
  refine va_putF (D := G) (ci := 5) (v := .int x) (ty := .int) (C := RX6) (T := TX6) (N := 3) hx hb hts in_X6 tyB tyB6 nmX6 hown hK hP hD hS j hj rfl 0 (by decide) (hts _ q134) (fun _ h => h) rfl hnm.2 rfl (by decide +kernel) rfl rfl (Nat.le_of_ble_eq_true rfl) dX4_init_6 (fun H locs hP hD hS => ?_)
  have hP : va_P G vwCl (ws.set j (q, .inr (5, [.int x, .int 0, .int 0]))) H := hP
  have hD : va_D A (ws.set j (q, .inr (5, [.int x, .int 0, .int 0]))) := hD
  have hj0 : (ws.set j (q, .inr (5, [.int x, .int 0, .int 0])))[j]? = some (q, .inr (5, [.int x, .int 0, .int 0])) := List.getElem?_set_self hjl
  refine lv_aload_n hx hb dX4_init_9 rfl (lv_at hl 0 rfl) ?_
  refine lv_iload_n hx hb dX4_init_10 rfl (lv_at hl 2 rfl) ?_
  refine va_putF (D := G) (ci := 5) (v := .int y) (ty := .int) (C := RX6) (T := TX6) (N := 3) hx hb hts in_X6 tyB tyB6 nmX6 hown hK hP hD hS j hj0 rfl 1 (by decide) (hts _ q135) (fun _ h => h) rfl hnm.2 rfl (by decide +kernel) rfl rfl (Nat.le_of_ble_eq_true rfl) dX4_init_11 (fun H locs hP hD hS => ?_)
  have hP : va_P G vwCl (ws.set j (q, .inr (5, [.int x, .int y, .int 0]))) H := by rw [List.set_set] at hP; exact hP
  have hD : va_D A (ws.set j (q, .inr (5, [.int x, .int y, .int 0]))) := by rw [List.set_set] at hD; exact hD
  have hj1 : (ws.set j (q, .inr (5, [.int x, .int y, .int 0])))[j]? = some (q, .inr (5, [.int x, .int y, .int 0])) := List.getElem?_set_self hjl
  refine lv_aload_n hx hb dX4_init_14 rfl (lv_at hl 0 rfl) ?_
  refine lv_iload_n hx hb dX4_init_15 rfl (lv_at hl 3 rfl) ?_
  refine va_putF (D := G) (ci := 5) (v := .int z) (ty := .int) (C := RX6) (T := TX6) (N := 3) hx hb hts in_X6 tyB tyB6 nmX6 hown hK hP hD hS j hj1 rfl 2 (by decide) (hts _ q136) (fun _ h => h) rfl hnm.2 rfl (by decide +kernel) rfl rfl (Nat.le_of_ble_eq_true rfl) dX4_init_16 (fun H locs hP hD hS => ?_)
  have hP : va_P G vwCl (ws.set j (q, .inr (5, [.int x, .int y, .int z]))) H := by rw [List.set_set] at hP; exact hP
  have hD : va_D A (ws.set j (q, .inr (5, [.int x, .int y, .int z]))) := by rw [List.set_set] at hD; exact hD
  have hj2 : (ws.set j (q, .inr (5, [.int x, .int y, .int z])))[j]? = some (q, .inr (5, [.int x, .int y, .int z])) := List.getElem?_set_self hjl
  exact W.vret hx hb hr (fun tt ht _ => ⟨⟨(), rfl, trivial, (show va_P G vwCl (ws.set j (q, .inr (5, [.int x, .int y, .int z]))) tt.heap from by rw [ht]; exact hP)⟩, hS.F ht⟩) hS.2.2 dX4_init_19 hlk
set_option maxHeartbeats 4000000 in
theorem mx_init6 (l : Launch) (G : va_G) (t : Nat → ClassId) (A : Nat → Prop) (ws : va_W) (j q : Nat) (x y z : Int32) (hj : ws[j]? = some (q, .inr (5, [.int 0, .int 0, .int 0]))) : Met l yX6_init (ws_ yX6_init cX6_init 4 none) (rm_ 0 2 0 0) (va_Pc [.ref q, .int x, .int y, .int z] (nPr G t A ws)) (va_Qv (fun (_ : Unit) => True) (mB G (fun _ => ws.set j (q, .inr (5, [.int x, .int y, .int z])))) A) 0 0 A := by
  refine mkx_W (by decide) (Nat.le_of_ble_eq_true rfl) ?_
  intro p e s m below meth c ls hx hb hml hr hlk hts hown hnm hv hl
  obtain ⟨hP, hK, hD, hA⟩ := hv
  have hS : va_S A s.heap s.heap [] := va_S.rf
  have hl : lv_has ls 4 [(0, .ref q), (1, .int x), (2, .int y), (3, .int z)] := hl
  refine lv_aload_n hx hb dX6_init_0 rfl (lv_at hl 0 rfl) ?_
  refine lv_iload_n hx hb dX6_init_1 rfl (lv_at hl 1 rfl) ?_
  refine lv_iload_n hx hb dX6_init_2 rfl (lv_at hl 2 rfl) ?_
  refine lv_iload_n hx hb dX6_init_3 rfl (lv_at hl 3 rfl) ?_
  refine va_callv (va_runI (As := [.int x, .int y, .int z]) (rest := []) ⟨hx, hb, hml, hown, hts⟩ (mx_binit6 l G t A ws j q x y z hj) (cwI 3 hts (lw_meth q130) rfl rfl rfl (hts _ q84) (hts _ q149) (hts _ q129) rfl (by decide +kernel) ⟨Nat.le_of_ble_eq_true rfl, Nat.le_of_ble_eq_true rfl⟩) ⟨nPr_fb, fun U hU hW => ⟨rfl, nPr_of hP hK hD hS hA hU hW⟩⟩ rfl rfl hl.1 rfl (lv_room (Nat.le_of_ble_eq_true rfl)) dX6_init_4 ⟨Nat.le_of_ble_eq_true rfl, Nat.le_of_ble_eq_true rfl⟩) hS (fun _ _ h => h) (fun _ h => h) (fun u tt H locs ht _ hq hP _ hkp hS => ?_)
  have hP : va_P G vwCl (ws.set j (q, .inr (5, [.int x, .int y, .int z]))) H := by rw [← ht]; exact hP
  exact W.vret hx hb hr (fun tt ht _ => ⟨⟨(), rfl, trivial, (show va_P G vwCl (ws.set j (q, .inr (5, [.int x, .int y, .int z]))) tt.heap from by rw [ht]; exact hP)⟩, hS.F ht⟩) hS.2.2 dX6_init_7 hlk
set_option maxHeartbeats 4000000 in
theorem mx_keeps (l : Launch) (G : va_G) (t : Nat → ClassId) (A : Nat → Prop) (a : Nat → Nat) (cs : Nat → ClassId) (K : XK) (many : (Nat → Int32)) (settings : (Nat → Int32)) (isVoted : Int32) (lotsNow : Int32) (seen : (Nat → Int32)) (keyOne : (Nat → Int32)) (keyTwo : (Nat → Int32)) (votes : (Nat → Int32)) (looked : Int32) (matched : Int32) (without : Int32) (trio : (Nat → Int32)) (takenStar : (Nat → Int32)) (takenAs : (Nat → Int32)) (takenSpot : (Nat → Int32)) (pairs : Int32) (starArms : (Nat → Int64)) (spotArms : (Nat → Int64)) (isTurn : Int32) (places : (Nat → Int32)) (byStar : (Nat → Int32)) (byFar : (Nat → Int32)) (one : (Nat → Int64)) (usedNow : (Nat → Int32)) (laidMany : (Nat → Int32)) (finding : Int32) (dir : (Nat → Int32)) (k : Nat) (x : Int32) (y : Int32) (z : Int32) (hM : Mok many) (hB : BodOk K dir many) (hk : k < 2) (hn : nK many k < mxK k) : Met l yX0_keeps (ws_ yX0_keeps cX0_keeps 5 (none)) (rm_ 0 3 1 3) (va_Pc [.ref (a 0), .int (nI k), .int x, .int y, .int z] (xPr G t A a cs K.L (Xx t a K many settings isVoted lotsNow seen keyOne keyTwo votes looked matched without trio takenStar takenAs takenSpot pairs starArms spotArms isTurn places byStar byFar one usedNow laidMany finding))) (va_Qv (fun (uv : ((Nat → Int32) × Int32) × XK) => uv.1 = ((upd many k (many k + 1)), 0) ∧ GrX A a K uv.2 (laysF dir (36 * k + 3 * nK many k) x y z) (upd many k (many k + 1))) (mB G (fun (uv : ((Nat → Int32) × Int32) × XK) => Xx t a uv.2 uv.1.1 settings uv.1.2 lotsNow seen keyOne keyTwo votes looked matched without trio takenStar takenAs takenSpot pairs starArms spotArms isTurn places byStar byFar one usedNow laidMany finding)) A) 1 3 A := by
  refine mkx_W (by decide) (Nat.le_of_ble_eq_true rfl) ?_
  intro p e s m below meth c ls hx hb hml hr hlk hts hown hnm hv hl
  obtain ⟨hP, hK, hD, hA, hE⟩ := hv
  have hS : va_S A s.heap s.heap [] := va_S.rf
  have hl : lv_has ls 5 [(0, .ref (a 0)), (1, .int (nI k)), (2, .int x), (3, .int y), (4, .int z)] := hl
  by_cases hk0 : k = 0
  · subst hk0
    refine lv_aload_n hx hb dX0_keeps_0 rfl (lv_at hl 0 rfl) ?_
    refine va_get (D := G) (ci := 0) (C := RX0) (T := TX0) (N := 32) hx hb hts in_X0 hown hK hP 0 xk_this rfl 3 (by decide) (hts _ q636) (fun _ h => h) rfl dX0_keeps_1 ?_
    refine lv_iload_n hx hb dX0_keeps_4 rfl (lv_at hl 1 rfl) ?_
    refine xq_aald (r := .ref (a (6 + 0))) hx hb hK hP 5 10 xk_bodies rfl rfl 0 (nI_q 0) (by decide) (by decide) rfl dX0_keeps_5 ?_
    refine lv_aload_n hx hb dX0_keeps_6 rfl (lv_at hl 0 rfl) ?_
    refine va_get (D := G) (ci := 0) (C := RX0) (T := TX0) (N := 32) hx hb hts in_X0 hown hK hP 0 xk_this rfl 4 (by decide) (hts _ q637) (fun _ h => h) rfl dX0_keeps_7 ?_
    refine lv_iload_n hx hb dX0_keeps_10 rfl (lv_at hl 1 rfl) ?_
    refine r_iald hx hb hK hP 8 0 xk_many rfl (f := many) 0 (nI_q 0) (by decide) (by decide) dX0_keeps_11 ?_
    refine lv_iload_n hx hb dX0_keeps_12 rfl (lv_at hl 1 rfl) ?_
    refine lv_if_ne (tgt := 30) hx hb dX0_keeps_13 (by decide) (fun c_1 => absurd c_1 (by decide)) (fun c_1 => ?_)
    refine va_new (C := RX5) (T := TX5) (N := 3) (ci := 4) hx hb hts in_X5 tyB tyB5 hown (hts _ q123) (hts _ q124) (hts _ q85) hK hP (xD hD) hS hA rfl (fs := [.int 0, .int 0, .int 0]) dv3 (Nat.le_of_ble_eq_true rfl) (Nat.le_of_ble_eq_true rfl) dX0_keeps_16 (fun q H hP hDq hS => ?_)
    have hqL : q ∉ K.L := xx_fresh hDq
    rw [xx_push hqL] at hP hDq
    have hD : XD A a (K.push q (.inr (4, [.int 0, .int 0, .int 0]))).L := xD_of hDq
    have hP : va_P G vwCl (Xx t a (K.push q (.inr (4, [.int 0, .int 0, .int 0]))) many settings isVoted lotsNow seen keyOne keyTwo votes looked matched without trio takenStar takenAs takenSpot pairs starArms spotArms isTurn places byStar byFar one usedNow laidMany finding) H := hP
    refine lv_dup hx hb dX0_keeps_19 rfl ?_
    refine lv_iload_n hx hb dX0_keeps_20 rfl (lv_at hl 2 rfl) ?_
    refine lv_iload_n hx hb dX0_keeps_21 rfl (lv_at hl 3 rfl) ?_
    refine lv_iload hx hb dX0_keeps_22 (lv_at hl 4 rfl) ?_
    obtain ⟨j, hj, hset⟩ := xx_place (t := t) (a := a) (K := (K.push q (.inr (4, [.int 0, .int 0, .int 0])))) (many := many) (settings := settings) (isVoted := isVoted) (lotsNow := lotsNow) (seen := seen) (keyOne := keyOne) (keyTwo := keyTwo) (votes := votes) (looked := looked) (matched := matched) (without := without) (trio := trio) (takenStar := takenStar) (takenAs := takenAs) (takenSpot := takenSpot) (pairs := pairs) (starArms := starArms) (spotArms := spotArms) (isTurn := isTurn) (places := places) (byStar := byStar) (byFar := byFar) (one := one) (usedNow := usedNow) (laidMany := laidMany) (finding := finding) (q := q) (List.mem_append_right _ (List.mem_singleton.mpr rfl))
    have hj : (Xx t a (K.push q (.inr (4, [.int 0, .int 0, .int 0]))) many settings isVoted lotsNow seen keyOne keyTwo votes looked matched without trio takenStar takenAs takenSpot pairs starArms spotArms isTurn places byStar byFar one usedNow laidMany finding)[j]? = some (q, (.inr (4, [.int 0, .int 0, .int 0]))) := by rw [hj]; exact congrArg (fun z => some (q, z)) (va_up_self _ _ _)
    refine va_callv (va_runI (As := [.int x, .int y, .int z]) (rest := [.ref q, .int (many 0), .ref (a (6 + 0))]) ⟨hx, hb, hml, hown, hts⟩ (mx_init5 l G t A (Xx t a (K.push q (.inr (4, [.int 0, .int 0, .int 0]))) many settings isVoted lotsNow seen keyOne keyTwo votes looked matched without trio takenStar takenAs takenSpot pairs starArms spotArms isTurn places byStar byFar one usedNow laidMany finding) j q x y z hj) (cwI 3 hts (lw_meth q127) rfl rfl rfl (hts _ q85) (hts _ q125) (hts _ q126) rfl (by decide +kernel) ⟨Nat.le_of_ble_eq_true rfl, Nat.le_of_ble_eq_true rfl⟩) ⟨nPr_fb, fun U hU hW => ⟨rfl, nPr_of hP hK (xD hD) hS hA hU hW⟩⟩ rfl rfl hl.1 rfl (lv_room (Nat.le_of_ble_eq_true rfl)) dX0_keeps_24 ⟨Nat.le_of_ble_eq_true rfl, Nat.le_of_ble_eq_true rfl⟩) hS (fun _ _ h => h) (fun _ h => h) (fun u tt H locs ht _ hq9 hP _ hkp hS => ?_)
    have hP : va_P G vwCl (Xx t a ((K.push q (.inr (4, [.int 0, .int 0, .int 0]))).put q (.inr (4, [.int x, .int y, .int z]))) many settings isVoted lotsNow seen keyOne keyTwo votes looked matched without trio takenStar takenAs takenSpot pairs starArms spotArms isTurn places byStar byFar one usedNow laidMany finding) H := by rw [← ht, ← hset A (.inr (4, [.int x, .int y, .int z])) (xD hD)]; exact hP
    have hD : XD A a ((K.push q (.inr (4, [.int 0, .int 0, .int 0]))).put q (.inr (4, [.int x, .int y, .int z]))).L := hD
    refine lv_goto (tgt := 41) hx hb dX0_keeps_27 (by decide) ?_
    obtain ⟨j2, hj2, -⟩ := xx_place (t := t) (a := a) (K := ((K.push q (.inr (4, [.int 0, .int 0, .int 0]))).put q (.inr (4, [.int x, .int y, .int z])))) (many := many) (settings := settings) (isVoted := isVoted) (lotsNow := lotsNow) (seen := seen) (keyOne := keyOne) (keyTwo := keyTwo) (votes := votes) (looked := looked) (matched := matched) (without := without) (trio := trio) (takenStar := takenStar) (takenAs := takenAs) (takenSpot := takenSpot) (pairs := pairs) (starArms := starArms) (spotArms := spotArms) (isTurn := isTurn) (places := places) (byStar := byStar) (byFar := byFar) (one := one) (usedNow := usedNow) (laidMany := laidMany) (finding := finding) (q := q) (List.mem_append_right _ (List.mem_singleton.mpr rfl))
    have hj2 : (Xx t a ((K.push q (.inr (4, [.int 0, .int 0, .int 0]))).put q (.inr (4, [.int x, .int y, .int z]))) many settings isVoted lotsNow seen keyOne keyTwo votes looked matched without trio takenStar takenAs takenSpot pairs starArms spotArms isTurn places byStar byFar one usedNow laidMany finding)[j2]? = some (q, (.inr (4, [.int x, .int y, .int z]))) := by rw [hj2]; exact congrArg (fun z => some (q, z)) (va_up_self _ _ _)
    refine va_astqO (r := (RX5, TX5, 3)) hx hb hK hP (xD hD) hS 6 5 j2 4 (xr_bodies (p := 0) (by decide)) rfl (hE.nw _ rfl (Or.inl q1315)) hj2 rfl (by rw [(hM 0 (by decide)).1]; exact nI_in hn (by decide)) dX0_keeps_41 (fun H locs hP _ hS => ?_)
    have hP : va_P G vwCl (Xx t a (KpX K 0 (nK many 0) q (.inr (4, [.int x, .int y, .int z]))) many settings isVoted lotsNow seen keyOne keyTwo votes looked matched without trio takenStar takenAs takenSpot pairs starArms spotArms isTurn places byStar byFar one usedNow laidMany finding) H := (congrArg (fun w => va_P G vwCl w H) (xs_bodies0 (t := t) (a := a) (K := ((K.push q (.inr (4, [.int 0, .int 0, .int 0]))).put q (.inr (4, [.int x, .int y, .int z])))) _)).mp hP
    have hD : XD A a (KpX K 0 (nK many 0) q (.inr (4, [.int x, .int y, .int z]))).L := hD
    refine lv_aload_n hx hb dX0_keeps_42 rfl (lv_at hl 0 rfl) ?_
    refine va_get (D := G) (ci := 0) (C := RX0) (T := TX0) (N := 32) hx hb hts in_X0 hown hK hP 0 xk_this rfl 4 (by decide) (hts _ q637) (fun _ h => h) rfl dX0_keeps_43 ?_
    refine lv_iload_n hx hb dX0_keeps_46 rfl (lv_at hl 1 rfl) ?_
    refine lv_dup2_11 hx hb dX0_keeps_47 rfl rfl ?_
    refine r_iald hx hb hK hP 8 0 xk_many rfl (f := many) 0 (nI_q 0) (by decide) (by decide) dX0_keeps_48 ?_
    refine lv_iconst (v := 1) hx hb dX0_keeps_49 (by decide) ?_
    refine lv_iadd hx hb dX0_keeps_50 ?_
    refine r_iast hx hb hK hP (xD hD) hS 8 0 xk_many rfl 0 (nI_q 0) (by decide) (by decide) dX0_keeps_51 (ws' := Xx t a (KpX K 0 (nK many 0) q (.inr (4, [.int x, .int y, .int z]))) (upd many 0 ((many 0) + 1)) settings isVoted lotsNow seen keyOne keyTwo votes looked matched without trio takenStar takenAs takenSpot pairs starArms spotArms isTurn places byStar byFar one usedNow laidMany finding) (xs_many _) (fun H locs hP hS => ?_)
    refine lv_aload_n hx hb dX0_keeps_52 rfl (lv_at hl 0 rfl) ?_
    refine lv_iconst (v := 0) hx hb dX0_keeps_53 (by decide) ?_
    refine va_put (D := G) (ci := 0) (v := .int 0) (ty := .boolean) (C := RX0) (T := TX0) (N := 32) hx hb hts in_X0 tyX0 tyX0_ok nmX0 hown hK hP (xD hD) hS 0 xk_this rfl 6 (by decide) (hts _ q639) (fun _ h => h) rfl (by decide +kernel) rfl rfl (Nat.le_of_ble_eq_true rfl) dX0_keeps_54 (fun H locs hP _ hS => ?_)
    have hP : va_P G vwCl (Xx t a (KpX K 0 (nK many 0) q (.inr (4, [.int x, .int y, .int z]))) (upd many 0 ((many 0) + 1)) settings 0 lotsNow seen keyOne keyTwo votes looked matched without trio takenStar takenAs takenSpot pairs starArms spotArms isTurn places byStar byFar one usedNow laidMany finding) H := by rw [xs_isVoted] at hP; exact hP
    exact W.vret hx hb hr (fun tt ht _ => ⟨⟨(((upd many 0 (many 0 + 1)), 0), (KpX K 0 (nK many 0) q (.inr (4, [.int x, .int y, .int z])))), rfl, ⟨rfl, (keeps_ok hM hB hk hn hqL hD)⟩, (show va_P G vwCl ((fun (uv : ((Nat → Int32) × Int32) × XK) => Xx t a uv.2 uv.1.1 settings uv.1.2 lotsNow seen keyOne keyTwo votes looked matched without trio takenStar takenAs takenSpot pairs starArms spotArms isTurn places byStar byFar one usedNow laidMany finding) (((upd many 0 (many 0 + 1)), 0), (KpX K 0 (nK many 0) q (.inr (4, [.int x, .int y, .int z]))))) tt.heap from by rw [ht]; exact hP)⟩, hS.F ht⟩) hS.2.2 dX0_keeps_57 hlk
  · obtain rfl : k = 1 := by omega
    refine lv_aload_n hx hb dX0_keeps_0 rfl (lv_at hl 0 rfl) ?_
    refine va_get (D := G) (ci := 0) (C := RX0) (T := TX0) (N := 32) hx hb hts in_X0 hown hK hP 0 xk_this rfl 3 (by decide) (hts _ q636) (fun _ h => h) rfl dX0_keeps_1 ?_
    refine lv_iload_n hx hb dX0_keeps_4 rfl (lv_at hl 1 rfl) ?_
    refine xq_aald (r := .ref (a (6 + 1))) hx hb hK hP 5 10 xk_bodies rfl rfl 1 (nI_q 1) (by decide) (by decide) rfl dX0_keeps_5 ?_
    refine lv_aload_n hx hb dX0_keeps_6 rfl (lv_at hl 0 rfl) ?_
    refine va_get (D := G) (ci := 0) (C := RX0) (T := TX0) (N := 32) hx hb hts in_X0 hown hK hP 0 xk_this rfl 4 (by decide) (hts _ q637) (fun _ h => h) rfl dX0_keeps_7 ?_
    refine lv_iload_n hx hb dX0_keeps_10 rfl (lv_at hl 1 rfl) ?_
    refine r_iald hx hb hK hP 8 0 xk_many rfl (f := many) 1 (nI_q 1) (by decide) (by decide) dX0_keeps_11 ?_
    refine lv_iload_n hx hb dX0_keeps_12 rfl (lv_at hl 1 rfl) ?_
    refine lv_if_ne (tgt := 30) hx hb dX0_keeps_13 (by decide) (fun c_2 => ?_) (fun c_2 => absurd c_2 (by decide))
    refine va_new (C := RX6) (T := TX6) (N := 3) (ci := 5) hx hb hts in_X6 tyB tyB6 hown (hts _ q144) (hts _ q145) (hts _ q86) hK hP (xD hD) hS hA rfl (fs := [.int 0, .int 0, .int 0]) dv3 (Nat.le_of_ble_eq_true rfl) (Nat.le_of_ble_eq_true rfl) dX0_keeps_30 (fun q H hP hDq hS => ?_)
    have hqL : q ∉ K.L := xx_fresh hDq
    rw [xx_push hqL] at hP hDq
    have hD : XD A a (K.push q (.inr (5, [.int 0, .int 0, .int 0]))).L := xD_of hDq
    have hP : va_P G vwCl (Xx t a (K.push q (.inr (5, [.int 0, .int 0, .int 0]))) many settings isVoted lotsNow seen keyOne keyTwo votes looked matched without trio takenStar takenAs takenSpot pairs starArms spotArms isTurn places byStar byFar one usedNow laidMany finding) H := hP
    refine lv_dup hx hb dX0_keeps_33 rfl ?_
    refine lv_iload_n hx hb dX0_keeps_34 rfl (lv_at hl 2 rfl) ?_
    refine lv_iload_n hx hb dX0_keeps_35 rfl (lv_at hl 3 rfl) ?_
    refine lv_iload hx hb dX0_keeps_36 (lv_at hl 4 rfl) ?_
    obtain ⟨j, hj, hset⟩ := xx_place (t := t) (a := a) (K := (K.push q (.inr (5, [.int 0, .int 0, .int 0])))) (many := many) (settings := settings) (isVoted := isVoted) (lotsNow := lotsNow) (seen := seen) (keyOne := keyOne) (keyTwo := keyTwo) (votes := votes) (looked := looked) (matched := matched) (without := without) (trio := trio) (takenStar := takenStar) (takenAs := takenAs) (takenSpot := takenSpot) (pairs := pairs) (starArms := starArms) (spotArms := spotArms) (isTurn := isTurn) (places := places) (byStar := byStar) (byFar := byFar) (one := one) (usedNow := usedNow) (laidMany := laidMany) (finding := finding) (q := q) (List.mem_append_right _ (List.mem_singleton.mpr rfl))
    have hj : (Xx t a (K.push q (.inr (5, [.int 0, .int 0, .int 0]))) many settings isVoted lotsNow seen keyOne keyTwo votes looked matched without trio takenStar takenAs takenSpot pairs starArms spotArms isTurn places byStar byFar one usedNow laidMany finding)[j]? = some (q, (.inr (5, [.int 0, .int 0, .int 0]))) := by rw [hj]; exact congrArg (fun z => some (q, z)) (va_up_self _ _ _)
    refine va_callv (va_runI (As := [.int x, .int y, .int z]) (rest := [.ref q, .int (many 1), .ref (a (6 + 1))]) ⟨hx, hb, hml, hown, hts⟩ (mx_init6 l G t A (Xx t a (K.push q (.inr (5, [.int 0, .int 0, .int 0]))) many settings isVoted lotsNow seen keyOne keyTwo votes looked matched without trio takenStar takenAs takenSpot pairs starArms spotArms isTurn places byStar byFar one usedNow laidMany finding) j q x y z hj) (cwI 3 hts (lw_meth q148) rfl rfl rfl (hts _ q86) (hts _ q146) (hts _ q147) rfl (by decide +kernel) ⟨Nat.le_of_ble_eq_true rfl, Nat.le_of_ble_eq_true rfl⟩) ⟨nPr_fb, fun U hU hW => ⟨rfl, nPr_of hP hK (xD hD) hS hA hU hW⟩⟩ rfl rfl hl.1 rfl (lv_room (Nat.le_of_ble_eq_true rfl)) dX0_keeps_38 ⟨Nat.le_of_ble_eq_true rfl, Nat.le_of_ble_eq_true rfl⟩) hS (fun _ _ h => h) (fun _ h => h) (fun u tt H locs ht _ hq9 hP _ hkp hS => ?_)
    have hP : va_P G vwCl (Xx t a ((K.push q (.inr (5, [.int 0, .int 0, .int 0]))).put q (.inr (5, [.int x, .int y, .int z]))) many settings isVoted lotsNow seen keyOne keyTwo votes looked matched without trio takenStar takenAs takenSpot pairs starArms spotArms isTurn places byStar byFar one usedNow laidMany finding) H := by rw [← ht, ← hset A (.inr (5, [.int x, .int y, .int z])) (xD hD)]; exact hP
    have hD : XD A a ((K.push q (.inr (5, [.int 0, .int 0, .int 0]))).put q (.inr (5, [.int x, .int y, .int z]))).L := hD
    obtain ⟨j2, hj2, -⟩ := xx_place (t := t) (a := a) (K := ((K.push q (.inr (5, [.int 0, .int 0, .int 0]))).put q (.inr (5, [.int x, .int y, .int z])))) (many := many) (settings := settings) (isVoted := isVoted) (lotsNow := lotsNow) (seen := seen) (keyOne := keyOne) (keyTwo := keyTwo) (votes := votes) (looked := looked) (matched := matched) (without := without) (trio := trio) (takenStar := takenStar) (takenAs := takenAs) (takenSpot := takenSpot) (pairs := pairs) (starArms := starArms) (spotArms := spotArms) (isTurn := isTurn) (places := places) (byStar := byStar) (byFar := byFar) (one := one) (usedNow := usedNow) (laidMany := laidMany) (finding := finding) (q := q) (List.mem_append_right _ (List.mem_singleton.mpr rfl))
    have hj2 : (Xx t a ((K.push q (.inr (5, [.int 0, .int 0, .int 0]))).put q (.inr (5, [.int x, .int y, .int z]))) many settings isVoted lotsNow seen keyOne keyTwo votes looked matched without trio takenStar takenAs takenSpot pairs starArms spotArms isTurn places byStar byFar one usedNow laidMany finding)[j2]? = some (q, (.inr (5, [.int x, .int y, .int z]))) := by rw [hj2]; exact congrArg (fun z => some (q, z)) (va_up_self _ _ _)
    refine va_astqO (r := (RX6, TX6, 3)) hx hb hK hP (xD hD) hS 7 5 j2 5 (xr_bodies (p := 1) (by decide)) rfl (hE.nw _ rfl (Or.inl q1316)) hj2 rfl (by rw [(hM 1 (by decide)).1]; exact nI_in hn (by decide)) dX0_keeps_41 (fun H locs hP _ hS => ?_)
    have hP : va_P G vwCl (Xx t a (KpX K 1 (nK many 1) q (.inr (5, [.int x, .int y, .int z]))) many settings isVoted lotsNow seen keyOne keyTwo votes looked matched without trio takenStar takenAs takenSpot pairs starArms spotArms isTurn places byStar byFar one usedNow laidMany finding) H := (congrArg (fun w => va_P G vwCl w H) (xs_bodies1 (t := t) (a := a) (K := ((K.push q (.inr (5, [.int 0, .int 0, .int 0]))).put q (.inr (5, [.int x, .int y, .int z])))) _)).mp hP
    have hD : XD A a (KpX K 1 (nK many 1) q (.inr (5, [.int x, .int y, .int z]))).L := hD
    refine lv_aload_n hx hb dX0_keeps_42 rfl (lv_at hl 0 rfl) ?_
    refine va_get (D := G) (ci := 0) (C := RX0) (T := TX0) (N := 32) hx hb hts in_X0 hown hK hP 0 xk_this rfl 4 (by decide) (hts _ q637) (fun _ h => h) rfl dX0_keeps_43 ?_
    refine lv_iload_n hx hb dX0_keeps_46 rfl (lv_at hl 1 rfl) ?_
    refine lv_dup2_11 hx hb dX0_keeps_47 rfl rfl ?_
    refine r_iald hx hb hK hP 8 0 xk_many rfl (f := many) 1 (nI_q 1) (by decide) (by decide) dX0_keeps_48 ?_
    refine lv_iconst (v := 1) hx hb dX0_keeps_49 (by decide) ?_
    refine lv_iadd hx hb dX0_keeps_50 ?_
    refine r_iast hx hb hK hP (xD hD) hS 8 0 xk_many rfl 1 (nI_q 1) (by decide) (by decide) dX0_keeps_51 (ws' := Xx t a (KpX K 1 (nK many 1) q (.inr (5, [.int x, .int y, .int z]))) (upd many 1 ((many 1) + 1)) settings isVoted lotsNow seen keyOne keyTwo votes looked matched without trio takenStar takenAs takenSpot pairs starArms spotArms isTurn places byStar byFar one usedNow laidMany finding) (xs_many _) (fun H locs hP hS => ?_)
    refine lv_aload_n hx hb dX0_keeps_52 rfl (lv_at hl 0 rfl) ?_
    refine lv_iconst (v := 0) hx hb dX0_keeps_53 (by decide) ?_
    refine va_put (D := G) (ci := 0) (v := .int 0) (ty := .boolean) (C := RX0) (T := TX0) (N := 32) hx hb hts in_X0 tyX0 tyX0_ok nmX0 hown hK hP (xD hD) hS 0 xk_this rfl 6 (by decide) (hts _ q639) (fun _ h => h) rfl (by decide +kernel) rfl rfl (Nat.le_of_ble_eq_true rfl) dX0_keeps_54 (fun H locs hP _ hS => ?_)
    have hP : va_P G vwCl (Xx t a (KpX K 1 (nK many 1) q (.inr (5, [.int x, .int y, .int z]))) (upd many 1 ((many 1) + 1)) settings 0 lotsNow seen keyOne keyTwo votes looked matched without trio takenStar takenAs takenSpot pairs starArms spotArms isTurn places byStar byFar one usedNow laidMany finding) H := by rw [xs_isVoted] at hP; exact hP
    exact W.vret hx hb hr (fun tt ht _ => ⟨⟨(((upd many 1 (many 1 + 1)), 0), (KpX K 1 (nK many 1) q (.inr (5, [.int x, .int y, .int z])))), rfl, ⟨rfl, (keeps_ok hM hB hk hn hqL hD)⟩, (show va_P G vwCl ((fun (uv : ((Nat → Int32) × Int32) × XK) => Xx t a uv.2 uv.1.1 settings uv.1.2 lotsNow seen keyOne keyTwo votes looked matched without trio takenStar takenAs takenSpot pairs starArms spotArms isTurn places byStar byFar one usedNow laidMany finding) (((upd many 1 (many 1 + 1)), 0), (KpX K 1 (nK many 1) q (.inr (5, [.int x, .int y, .int z]))))) tt.heap from by rw [ht]; exact hP)⟩, hS.F ht⟩) hS.2.2 dX0_keeps_57 hlk
