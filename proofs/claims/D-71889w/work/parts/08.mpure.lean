/-! PURE WORDS of both sides: guards, directions, sides, keys, votes -/
/-- how many there are of a kind -/
abbrev nK (f : Nat → Int32) (k : Nat) : Nat := (f k).toNatClampNeg
/-- at most so many -/
abbrev mxK (k : Nat) : Nat := if k = 0 then 12 else 8
def Mok (f : Nat → Int32) : Prop := ∀ k, k < 2 → f k = nI (nK f k) ∧ nK f k ≤ mxK k
abbrev rng (x : Int32) (lo hi : Int) : Prop := lo ≤ x.toInt ∧ x.toInt ≤ hi
abbrev thP (f : Nat → Int32) (kind i : Int32) : Prop := rng kind 0 1 ∧ 0 ≤ i.toInt ∧ i.toInt < (nK f kind.toNatClampNeg : Int)
theorem nat_of {x : Int32} (h : 0 ≤ x.toInt) : x = nI x.toNatClampNeg ∧ (x.toNatClampNeg : Int) = x.toInt := by
  have h1 : x.toNatClampNeg = x.toInt.toNat := rfl
  constructor
  · apply Int32.toInt_inj.mp
    have h2 : x.toInt < 2 ^ 31 := Int32.toInt_lt x
    rw [nI_toInt (by omega)]
    omega
  · omega
theorem rng_ex {x : Int32} {n : Nat} (h : rng x 0 n) : ∃ j : Nat, j ≤ n ∧ x = nI j := by
  obtain ⟨e1, e2⟩ := nat_of h.1
  exact ⟨x.toNatClampNeg, by have := h.2; omega, e1⟩
theorem thP_ex {f : Nat → Int32} (hM : Mok f) {kind i : Int32} (h : thP f kind i) : ∃ k j : Nat, k < 2 ∧ j < nK f k ∧ nK f k ≤ mxK k ∧ f k = nI (nK f k) ∧ kind = nI k ∧ i = nI j := by
  obtain ⟨e1, e2⟩ := nat_of h.1.1
  obtain ⟨e3, e4⟩ := nat_of h.2.1
  have hk : kind.toNatClampNeg < 2 := by have := h.1.2; omega
  exact ⟨kind.toNatClampNeg, i.toNatClampNeg, hk, by have := h.2.2; omega, (hM _ hk).2, (hM _ hk).1, e1, e3⟩
theorem mx_le {k : Nat} (hk : k < 2) : mxK k ≤ 12 ∧ 36 * k + 3 * mxK k ≤ 60 := by
  rcases (show k = 0 ∨ k = 1 by omega) with rfl | rfl <;> decide
theorem b2i_and {a b : Prop} [Decidable a] [Decidable b] : b2i (a ∧ b) = if a then b2i b else 0 := by
  unfold b2i
  by_cases ha : a <;> by_cases hb : b <;> simp [ha, hb]
/-- the square of a side, between the places p and q of the directions -/
def sideF (d : Nat → Int32) (p q : Nat) : Int32 := 0 + (d (p + 0) - d (q + 0)) * (d (p + 0) - d (q + 0)) + (d (p + 1) - d (q + 1)) * (d (p + 1) - d (q + 1)) + (d (p + 2) - d (q + 2)) * (d (p + 2) - d (q + 2))
def apartF (a b : Int32) : Int32 := if a < b then b - a else a - b
def lesF (a b : Int32) : Int32 := if a < b then a else b
def greF (a b : Int32) : Int32 := if b < a then a else b
def threeF (n : Int32) : Int32 := n * (n - 1) * (n - 2) / 6
/-- f at 0, 1, .. (n times) -/
def fz {α : Type} (f : Nat → α → α) : Nat → α → α
  | 0, s => s
  | n + 1, s => f n (fz f n s)
abbrev zK (f : Nat → Int32) (k : Nat) : Nat := (f k).toNatClampNeg
def Sok (f : Nat → Int32) : Prop := ∀ k, k < 4 → f k = nI (zK f k) ∧ zK f k ≤ 60
abbrev dirP (x y z : Int32) : Prop := rng x (-100) 100 ∧ rng y (-100) 100 ∧ rng z (-100) 100 ∧ (x ≠ 0 ∨ y ≠ 0 ∨ z ≠ 0)
def cutF (form v : Int32) : Int32 := if form = 0 then v.toInt8.toInt32 else if form = 1 then v.toInt16.toInt32 else v
theorem tn_nI {k : Nat} (h : k < 2 ^ 31) : (nI k).toNatClampNeg = k := nI_clamp h
/-- sheets -/
def findsM (σ : Sm) (n : Int32) : Int32 × Sm := (-10 - n, σ.s_latest n)
def zeroF (b n : Nat) (f : Nat → Int32) : Nat → Int32 := fz (fun i g => upd g (60 * b + i) 0) n f
def sheetK (σ : Sm) (s : Nat) (form n : Int32) : Int32 × Sm :=
  if n ≤ 60 then (if 0 ≤ n then (n, ((σ.s_forms (upd σ.forms s form)).s_sizes (upd σ.sizes s n)).s_items (zeroF s n.toNatClampNeg σ.items)) else (-10 - 5, σ.s_latest 5)) else (-2, σ)
def sheetM (σ : Sm) (s form n : Int32) : Int32 × Sm := if rng s 0 3 then (if rng form 0 2 then sheetK σ s.toNatClampNeg form n else (-2, σ)) else (-2, σ)
def loseK (σ : Sm) (s : Nat) : Int32 × Sm := if 0 ≤ σ.forms s then (σ.sizes s, σ.s_forms (upd σ.forms s (-1))) else (-10 - 1, σ.s_latest 1)
def loseM (σ : Sm) (s : Int32) : Int32 × Sm := if rng s 0 3 then loseK σ s.toNatClampNeg else (-2, σ)
def lacksK (σ : Sm) (s : Nat) (form i : Int32) : Int32 × Sm :=
  if 0 ≤ σ.forms s then (if σ.forms s = form then (if 0 ≤ i.toInt ∧ i.toInt < (zK σ.sizes s : Int) then (0, σ) else (-10 - 2, σ.s_latest 2)) else (-10 - 3, σ.s_latest 3)) else (-10 - 1, σ.s_latest 1)
def layK (σ : Sm) (s : Nat) (form i v : Int32) : Int32 × Sm :=
  if (lacksK σ s form i).1 = 0 then (1, (lacksK σ s form i).2.s_items (upd (lacksK σ s form i).2.items (60 * s + i.toNatClampNeg) (cutF form v))) else lacksK σ s form i
def layM (σ : Sm) (s form i v : Int32) : Int32 × Sm := if rng s 0 3 then (if rng form 0 2 then layK σ s.toNatClampNeg form i v else (-2, σ)) else (-2, σ)
def getK (σ : Sm) (s : Nat) (form i : Int32) : Int32 × Sm :=
  if (lacksK σ s form i).1 = 0 then ((lacksK σ s form i).2.items (60 * s + i.toNatClampNeg), (lacksK σ s form i).2) else (-2147483648, (lacksK σ s form i).2)
def getM (σ : Sm) (s form i : Int32) : Int32 × Sm := if rng s 0 3 then (if rng form 0 2 then getK σ s.toNatClampNeg form i else (-2147483648, σ)) else (-2147483648, σ)
theorem lacks_0 {σ : Sm} {s : Nat} {form i : Int32} (h : (lacksK σ s form i).1 = 0) : lacksK σ s form i = (0, σ) ∧ 0 ≤ i.toInt ∧ i.toInt < (zK σ.sizes s : Int) := by
  unfold lacksK at h ⊢
  by_cases h1 : 0 ≤ σ.forms s
  · rw [if_pos h1] at h ⊢
    by_cases h2 : σ.forms s = form
    · rw [if_pos h2] at h ⊢
      by_cases h3 : 0 ≤ i.toInt ∧ i.toInt < (zK σ.sizes s : Int)
      · rw [if_pos h3]; exact ⟨rfl, h3⟩
      · rw [if_neg h3] at h; exact absurd h (by show ¬ ((-10 : Int32) - 2 = 0); decide)
    · rw [if_neg h2] at h; exact absurd h (by show ¬ ((-10 : Int32) - 3 = 0); decide)
  · rw [if_neg h1] at h; exact absurd h (by show ¬ ((-10 : Int32) - 1 = 0); decide)
/-- stars and spots -/
def laysF (d : Nat → Int32) (b : Nat) (x y z : Int32) : Nat → Int32 := upd (upd (upd d b x) (b + 1) y) (b + 2) z
def addK (σ : Sm) (k : Nat) (x y z : Int32) : Int32 × Sm :=
  if dirP x y z then (if nK σ.many k = mxK k then (-4, σ) else (upd σ.many k (σ.many k + 1) k, (σ.s_dir (laysF σ.dir (36 * k + 3 * nK σ.many k) x y z)).s_many (upd σ.many k (σ.many k + 1)))) else (-2, σ)
def addM (σ : Sm) (kind x y z : Int32) : Int32 × Sm := if rng kind 0 1 then addK σ kind.toNatClampNeg x y z else (-2, σ)
def backK (σ : Sm) (k : Nat) : Int32 × Sm := if σ.many k = 0 then (-3, σ) else (upd σ.many k (σ.many k - 1) k, σ.s_many (upd σ.many k (σ.many k - 1)))
def backM (σ : Sm) (kind : Int32) : Int32 × Sm := if rng kind 0 1 then backK σ kind.toNatClampNeg else (-2, σ)
def atR (many dir : Nat → Int32) (kind i w : Int32) : Int32 := if thP many kind i then (if rng w 0 2 then dir (36 * kind.toNatClampNeg + 3 * i.toNatClampNeg + w.toNatClampNeg) else -2147483648) else -2147483648
/-- rows of a sheet, read: fuel, how many so far -/
def readL (k s : Nat) : Nat → Nat → Sm → Nat × Sm
  | 0, n, σ => (n, σ)
  | f + 1, n, σ => if 3 * n + 3 ≤ zK σ.sizes s then (if 0 ≤ (addK σ k (σ.items (60 * s + 3 * n)) (σ.items (60 * s + 3 * n + 1)) (σ.items (60 * s + 3 * n + 2))).1 then readL k s f (n + 1) (addK σ k (σ.items (60 * s + 3 * n)) (σ.items (60 * s + 3 * n + 1)) (σ.items (60 * s + 3 * n + 2))).2 else (n, (addK σ k (σ.items (60 * s + 3 * n)) (σ.items (60 * s + 3 * n + 1)) (σ.items (60 * s + 3 * n + 2))).2)) else (n, σ)
theorem readL_s (k s f n : Nat) (σ : Sm) : readL k s (f + 1) n σ = (if 3 * n + 3 ≤ zK σ.sizes s then (if 0 ≤ (addK σ k (σ.items (60 * s + 3 * n)) (σ.items (60 * s + 3 * n + 1)) (σ.items (60 * s + 3 * n + 2))).1 then readL k s f (n + 1) (addK σ k (σ.items (60 * s + 3 * n)) (σ.items (60 * s + 3 * n + 1)) (σ.items (60 * s + 3 * n + 2))).2 else (n, (addK σ k (σ.items (60 * s + 3 * n)) (σ.items (60 * s + 3 * n + 1)) (σ.items (60 * s + 3 * n + 2))).2)) else (n, σ)) := rfl
def readK (σ : Sm) (k s : Nat) : Int32 × Sm := if 0 ≤ σ.forms s then (nI (readL k s 21 0 σ).1, (readL k s 21 0 σ).2) else (-10 - 1, σ.s_latest 1)
def readM (σ : Sm) (kind s : Int32) : Int32 × Sm := if rng kind 0 1 then (if rng s 0 3 then readK σ kind.toNatClampNeg s.toNatClampNeg else (-2, σ)) else (-2, σ)
/-- copies between sheets -/
def movedF (s i n : Nat) (f g : Nat → Int32) : Nat → Int32 := fz (fun a h => upd h a (f (60 * s + i + a))) n g
def pastF (s i n : Nat) (g f : Nat → Int32) : Nat → Int32 := fz (fun a h => upd h (60 * s + i + a) (g a)) n f
def copyK (σ : Sm) (s t : Nat) (i j n : Int32) : Int32 × Sm :=
  if σ.forms s < 0 then (-10 - 1, σ.s_latest 1) else if 0 ≤ σ.forms t then (
  if σ.forms s = σ.forms t then
    (if i < 0 then (-10 - 2, σ.s_latest 2) else if j < 0 then (-10 - 2, σ.s_latest 2) else if n < 0 then (-10 - 2, σ.s_latest 2) else
     if zK σ.sizes s < i.toNatClampNeg + n.toNatClampNeg then (-10 - 2, σ.s_latest 2) else if zK σ.sizes t < j.toNatClampNeg + n.toNatClampNeg then (-10 - 2, σ.s_latest 2) else
     (1, (σ.s_moved (movedF s i.toNatClampNeg n.toNatClampNeg σ.items σ.moved)).s_items (pastF t j.toNatClampNeg n.toNatClampNeg (movedF s i.toNatClampNeg n.toNatClampNeg σ.items σ.moved) σ.items)))
  else (-10 - 4, σ.s_latest 4)) else (-10 - 1, σ.s_latest 1)
def copyM (σ : Sm) (s i t j n : Int32) : Int32 × Sm := if rng s 0 3 then (if rng t 0 3 then copyK σ s.toNatClampNeg t.toNatClampNeg i j n else (-2, σ)) else (-2, σ)
theorem in_le {a x : Int32} {n : Nat} (h : x = nI n) (hn : n < 2 ^ 31) : ((0 : Int64).toInt ≤ a.toInt64.toInt ∧ a.toInt64.toInt ≤ x.toInt64.toInt) ↔ (0 ≤ a.toInt ∧ a.toInt ≤ (n : Int)) := by
  rw [h]
  simp [nI_toInt hn]
theorem in_lt {a x : Int32} {n : Nat} (h : x = nI n) (hn : n ≤ 1000) : ((0 : Int64).toInt ≤ a.toInt64.toInt ∧ a.toInt64.toInt ≤ (x - 1).toInt64.toInt) ↔ (0 ≤ a.toInt ∧ a.toInt < (n : Int)) := by
  have e : (x - 1).toInt = (n : Int) - 1 := by rw [h, show (1 : Int32) = nI 1 from rfl, pk_sub_toInt (by omega) (by omega)]; rfl
  simp [e]
  omega
theorem n_60 {n : Int32} (h0 : 0 ≤ n) (h : n ≤ 60) : ∃ z : Nat, z ≤ 60 ∧ n = nI z := by
  obtain ⟨j, hj, rfl⟩ := nI_of (Int32.not_lt.mpr h0)
  exact ⟨j, (nI_leI hj (by omega : 60 < 2 ^ 31)).mp h, rfl⟩
theorem nat_lt {i : Int32} {n : Nat} (h1 : 0 ≤ i.toInt) (h2 : i.toInt < (n : Int)) : ∃ j : Nat, j < n ∧ i = nI j := by
  obtain ⟨e1, e2⟩ := nat_of h1
  exact ⟨i.toNatClampNeg, by omega, e1⟩
theorem rng_nI {k n : Nat} (h : k ≤ n) (hn : n < 2 ^ 31 := by omega) : rng (nI k) 0 n := by
  rw [rng, nI_toInt (by omega)]
  omega
theorem cmp_sz {x n z : Nat} {y : Int32} (hy : y = nI z) (hz : z < 2 ^ 31) (hx : x < 2 ^ 31) (hn : n < 2 ^ 31) : 0 < lg_cmp ((nI x).toInt64 + (nI n).toInt64) y.toInt64 ↔ z < x + n := by
  rw [lg_cmp_gt, hy, nI_l hx, nI_l hn, nI_l hz, lN_add]
  exact pk_lLT (by omega) (by omega)
theorem addK_sizes {σ : Sm} {k : Nat} {x y z : Int32} (h : Sok σ.sizes) : Sok (addK σ k x y z).2.sizes := by
  unfold addK
  split
  · split
    · exact h
    · exact h
  · exact h
theorem addK_many {σ : Sm} {k : Nat} {x y z : Int32} (h : Mok σ.many) (hk : k < 2) : Mok (addK σ k x y z).2.many := by
  unfold addK
  split
  · split
    · exact h
    · rename_i hn
      intro j hj
      obtain ⟨e1, e2⟩ := h k hk
      have hm := mx_le hk
      show upd σ.many k (σ.many k + 1) j = nI (nK (upd σ.many k (σ.many k + 1)) j) ∧ nK (upd σ.many k (σ.many k + 1)) j ≤ mxK j
      by_cases hjk : j = k
      · subst hjk
        have e3 : upd σ.many j (σ.many j + 1) j = nI (nK σ.many j + 1) := by
          rw [show upd σ.many j (σ.many j + 1) j = σ.many j + 1 by simp [upd]]
          exact ix_add e1 (nI_q 1)
        unfold nK at *
        rw [e3, tn_nI (by omega)]
        exact ⟨rfl, by omega⟩
      · have e3 : upd σ.many k (σ.many k + 1) j = σ.many j := by simp [upd, hjk]
        unfold nK at *
        rw [e3]
        exact h j hj
  · exact h
theorem fz_0 {α : Type} (f : Nat → α → α) (s : α) : fz f 0 s = s := rfl
theorem fz_s {α : Type} (f : Nat → α → α) (n : Nat) (s : α) : fz f (n + 1) s = f n (fz f n s) := rfl
