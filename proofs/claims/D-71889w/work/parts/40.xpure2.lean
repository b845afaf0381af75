/-! PURE WORDS of the tracker: taking -/
abbrev frX (st : Nat → Int32) (x : Int32) (n : Nat) : Prop := ∀ p, p < n → ¬ st p = x
theorem frX_s {st : Nat → Int32} {x : Int32} {n : Nat} : frX st x (n + 1) ↔ frX st x n ∧ ¬ st n = x := by
  constructor
  · exact fun h => ⟨fun p hp => h p (by omega), h n (by omega)⟩
  · intro h p hp
    by_cases e : p = n
    · rw [e]; exact h.2
    · exact h.1 p (by omega)
def oneS (v : Nat → Int32) (few : Int32) (st : Nat → Int32) (p i : Nat) (s : Int32 × Int32) : Int32 × Int32 :=
  if few ≤ v (12 * p + i) then (if frX st (nI i) 8 then (if s.1 = -1 then (nI p, nI i) else if v (12 * s.1.toNatClampNeg + s.2.toNatClampNeg) < v (12 * p + i) then (nI p, nI i) else s) else s) else s
def onQ (v : Nat → Int32) (few : Int32) (st : Nat → Int32) (p n : Nat) (s : Int32 × Int32) : Int32 × Int32 := fz (fun i s => oneS v few st p i s) n s
theorem onQ_0 (v : Nat → Int32) (few : Int32) (st : Nat → Int32) (p : Nat) (s : Int32 × Int32) : onQ v few st p 0 s = s := rfl
theorem onQ_s (v : Nat → Int32) (few : Int32) (st : Nat → Int32) (p n : Nat) (s : Int32 × Int32) : onQ v few st p (n + 1) s = oneS v few st p n (onQ v few st p n s) := rfl
def oneI (v : Nat → Int32) (few : Int32) (st : Nat → Int32) (n0 p : Nat) (s : Int32 × Int32) : Int32 × Int32 := if st p = -1 then onQ v few st p n0 s else s
def oneP (v : Nat → Int32) (few : Int32) (st : Nat → Int32) (n0 n : Nat) : Int32 × Int32 := fz (fun p s => oneI v few st n0 p s) n (-1, -1)
theorem oneP_0 (v : Nat → Int32) (few : Int32) (st : Nat → Int32) (n0 : Nat) : oneP v few st n0 0 = (-1, -1) := rfl
theorem oneP_s (v : Nat → Int32) (few : Int32) (st : Nat → Int32) (n0 n : Nat) : oneP v few st n0 (n + 1) = oneI v few st n0 n (oneP v few st n0 n) := rfl
/-- none, or a spot that is free and a star -/
def OneOk (st : Nat → Int32) (s : Int32 × Int32) : Prop := ¬ s.1 = -1 → s.1 = nI s.1.toNatClampNeg ∧ s.1.toNatClampNeg < 8 ∧ s.2 = nI s.2.toNatClampNeg ∧ s.2.toNatClampNeg < 12 ∧ st s.1.toNatClampNeg = -1
theorem oneS_ok {v : Nat → Int32} {few : Int32} {st : Nat → Int32} {p i : Nat} {s : Int32 × Int32} (hp : p < 8) (hi : i < 12) (hst : st p = -1) (h : OneOk st s) : OneOk st (oneS v few st p i s) := by
  have here : OneOk st (nI p, nI i) := fun _ => by
    show nI p = nI (nI p).toNatClampNeg ∧ (nI p).toNatClampNeg < 8 ∧ nI i = nI (nI i).toNatClampNeg ∧ (nI i).toNatClampNeg < 12 ∧ st (nI p).toNatClampNeg = -1
    rw [tn_nI (by omega), tn_nI (by omega)]
    exact ⟨rfl, hp, rfl, hi, hst⟩
  unfold oneS
  split
  · split
    · split
      · exact here
      · split
        · exact here
        · exact h
    · exact h
  · exact h
theorem onQ_ok {v : Nat → Int32} {few : Int32} {st : Nat → Int32} {p n : Nat} {s : Int32 × Int32} (hp : p < 8) (hst : st p = -1) (h : OneOk st s) : n ≤ 12 → OneOk st (onQ v few st p n s) := by
  induction n with
  | zero => exact fun _ => h
  | succ n ih => exact fun hn => oneS_ok hp (by omega) hst (ih (by omega))
theorem oneP_ok {v : Nat → Int32} {few : Int32} {st : Nat → Int32} {n0 : Nat} (h0 : n0 ≤ 12) : ∀ n, n ≤ 8 → OneOk st (oneP v few st n0 n) := by
  intro n
  induction n with
  | zero => exact fun _ h => absurd rfl h
  | succ n ih =>
    intro hn
    rw [oneP_s]
    unfold oneI
    by_cases hst : st n = -1
    · rw [if_pos hst]; exact onQ_ok (by omega) hst (ih (by omega)) h0
    · rw [if_neg hst]; exact ih (by omega)
theorem one_none {v : Nat → Int32} {few : Int32} {st : Nat → Int32} {n0 n : Nat} (h0 : n0 ≤ 12) (hn : n ≤ 8) (h : freeN st 8 = 0) : (oneP v few st n0 n).1 = -1 := Classical.byContradiction fun q => by
  obtain ⟨-, h1, -, -, h2⟩ := oneP_ok (v := v) (few := few) h0 n hn q
  exact freeN_0 h _ h1 h2
/-- of spots their stars, as which; spots as taken; how many -/
abbrev TX : Type := (Nat → Int32) × (Nat → Int32) × (Nat → Int32) × Int32
def asgX (s : TX) (o : Int32 × Int32) : TX := (upd s.1 o.1.toNatClampNeg o.2, upd s.2.1 o.1.toNatClampNeg s.2.2.2, upd s.2.2.1 s.2.2.2.toNatClampNeg o.1, s.2.2.2 + 1)
def oneG (v : Nat → Int32) (few : Int32) (n0 n1 : Nat) (s : TX) : Int32 := if (oneP v few s.1 n0 n1).1 = -1 then 0 else 1
def oneT (v : Nat → Int32) (few : Int32) (n0 n1 : Nat) (s : TX) : TX := if (oneP v few s.1 n0 n1).1 = -1 then s else asgX s (oneP v few s.1 n0 n1)
def takesXL (v : Nat → Int32) (few : Int32) (n0 n1 : Nat) : Nat → TX → TX
  | 0, s => s
  | f + 1, s => if (oneP v few s.1 n0 n1).1 = -1 then s else takesXL v few n0 n1 f (asgX s (oneP v few s.1 n0 n1))
theorem takesXL_s (v : Nat → Int32) (few : Int32) (n0 n1 f : Nat) (s : TX) : takesXL v few n0 n1 (f + 1) s = if (oneP v few s.1 n0 n1).1 = -1 then s else takesXL v few n0 n1 f (asgX s (oneP v few s.1 n0 n1)) := rfl
def takesX (v : Nat → Int32) (few : Int32) (n0 n1 : Nat) (s : TX) : TX := takesXL v few n0 n1 8 (noneF 8 s.1, noneF 8 s.2.1, s.2.2.1, 0)
def TxInv (s : TX) (k : Nat) : Prop := s.2.2.2 = nI k ∧ freeN s.1 8 + k = 8
theorem txInv_0 (f g h : Nat → Int32) : TxInv (noneF 8 f, noneF 8 g, h, 0) 0 := ⟨rfl, by show freeN (noneF 8 f) 8 + 0 = 8; rw [freeN_all (noneF_at f 8)]⟩
theorem txInv_s {s : TX} {k : Nat} {o : Int32 × Int32} (h : TxInv s k) (ho : OneOk s.1 o) (hn : ¬ o.1 = -1) : TxInv (asgX s o) (k + 1) ∧ k < 8 ∧ freeN (asgX s o).1 8 + 1 = freeN s.1 8 := by
  obtain ⟨h1, h2⟩ := h
  obtain ⟨-, p8, e2, i12, hst⟩ := ho hn
  have hx : ¬ o.2 = -1 := by rw [e2]; exact nI_nm1 (by omega)
  have hfr := (freeN_upd (st := s.1) (p := o.1.toNatClampNeg) (x := o.2) hx 8).1 p8 hst
  refine ⟨⟨?_, ?_⟩, by omega, hfr⟩
  · show s.2.2.2 + 1 = _
    rw [h1]; exact nI_1 k
  · show freeN (upd s.1 o.1.toNatClampNeg o.2) 8 + (k + 1) = 8
    omega
