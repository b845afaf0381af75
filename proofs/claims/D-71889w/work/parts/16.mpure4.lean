/-! PURE WORDS: finding as a whole -/
abbrev vF (σ : Sm) : VS := votesF σ.dir (σ.settings 0) (σ.settings 1) σ.gone (nK σ.many 0) (nK σ.many 1) σ.votes
abbrev tF (σ : Sm) : TK := takesF (vF σ).2.2 (σ.settings 2) (σ.starOf, σ.rankOf, σ.used, σ.pairs)
abbrev nF (σ : Sm) : TN := turnF σ.dir (nK σ.many 0) (tF σ).1 (tF σ).2.1 (tF σ).2.2.2 σ.starArm σ.spotArm σ.self σ.placeOf
abbrev cF (σ : Sm) : CF := confF σ.dir (nF σ).2.2.2.2 (σ.settings 3) (nF σ).1 σ.gone (nK σ.many 0) (nK σ.many 1) (σ.manySure, (tF σ).2.2.1, σ.sure, σ.far)
def findG (σ : Sm) (v : VS) (k : TK) (n : TN) (c : CF) : Sm := (σ.forms, σ.sizes, σ.items, σ.moved, σ.latest, σ.dir, σ.many, σ.settings, σ.drawn, σ.gone, v.1, v.2.1, v.2.2, k.1, k.2.1, c.2.1, k.2.2.2, n.1, n.2.1, n.2.2.1, n.2.2.2.1, n.2.2.2.2, c.2.2.1, c.2.2.2, c.1, σ.tray, σ.trayMany, σ.holds)
def findE (σ : Sm) (v : VS) (k : TK) (n : TN) : Sm := findG σ v k n (confF σ.dir n.2.2.2.2 (σ.settings 3) n.1 σ.gone (nK σ.many 0) (nK σ.many 1) (σ.manySure, k.2.2.1, σ.sure, σ.far))
def findD (σ : Sm) (v : VS) (k : TK) : Sm := findE σ v k (turnF σ.dir (nK σ.many 0) k.1 k.2.1 k.2.2.2 σ.starArm σ.spotArm σ.self σ.placeOf)
def findC (σ : Sm) (v : VS) : Sm := findD σ v (takesF v.2.2 (σ.settings 2) (σ.starOf, σ.rankOf, σ.used, σ.pairs))
def findM (σ : Sm) : Sm := findC σ (votesF σ.dir (σ.settings 0) (σ.settings 1) σ.gone (nK σ.many 0) (nK σ.many 1) σ.votes)
/-- what a turn asks of what was taken -/
def TakOk (st rk : Nat → Int32) (pairs : Int32) : Prop := ¬ pairs ≤ 1 → ∃ x y i j : Nat, x < 8 ∧ y < 8 ∧ i < 12 ∧ j < 12 ∧ spotF rk 0 8 = nI x ∧ spotF rk 1 8 = nI y ∧ st x = nI i ∧ st y = nI j
/-- what it asks of the directions -/
def ArmOk (d : Nat → Int32) : Prop := ∀ (P Q : Nat) (w S : Nat → Int64), P + 2 < 60 → Q + 2 < 60 → ¬ nonP (armsF d P Q w) → ¬ (2 : Int64) * selfF (armsF d P Q w) S 2 = 0
theorem confP_t {d pl : Nat → Int32} {near it g : Int32} {n n1 p : Nat} {s : CF} (h : (confJ d pl s.2.1 near it g n n1 p s.2.2).1 p = -1) : confP d pl near it g n n1 p s = (s.1, s.2.1, (confJ d pl s.2.1 near it g n n1 p s.2.2).1, (confJ d pl s.2.1 near it g n n1 p s.2.2).2) := if_pos h
theorem confP_f {d pl : Nat → Int32} {near it g : Int32} {n n1 p j : Nat} {s : CF} (h : ¬ (confJ d pl s.2.1 near it g n n1 p s.2.2).1 p = -1) (e : ((confJ d pl s.2.1 near it g n n1 p s.2.2).1 p).toNatClampNeg = j) : confP d pl near it g n n1 p s = (s.1 + 1, upd s.2.1 j 1, (confJ d pl s.2.1 near it g n n1 p s.2.2).1, (confJ d pl s.2.1 near it g n n1 p s.2.2).2) := by
  subst e
  exact if_neg h
theorem findM_eq (σ : Sm) (v : VS) (hv : v = votesF σ.dir (σ.settings 0) (σ.settings 1) σ.gone (nK σ.many 0) (nK σ.many 1) σ.votes) (k : TK) (hk : k = takesF v.2.2 (σ.settings 2) (σ.starOf, σ.rankOf, σ.used, σ.pairs)) (n : TN) (hn : n = turnF σ.dir (nK σ.many 0) k.1 k.2.1 k.2.2.2 σ.starArm σ.spotArm σ.self σ.placeOf) (c : CF) (hc : c = confF σ.dir n.2.2.2.2 (σ.settings 3) n.1 σ.gone (nK σ.many 0) (nK σ.many 1) (σ.manySure, k.2.2.1, σ.sure, σ.far)) : findM σ = findG σ v k n c := by
  unfold findM
  rw [← hv]
  unfold findC
  rw [← hk]
  unfold findD
  rw [← hn]
  unfold findE
  rw [← hc]
