/-! PURE WORDS of the tracker: the digest -/
theorem votesD_0 (vt : Nat → Int32) (p : Nat) (x : Int64) : votesD vt p 0 x = x := rfl
theorem votesD_s (vt : Nat → Int32) (p n : Nat) (x : Int64) : votesD vt p (n + 1) x = 31 * votesD vt p n x + (vt (12 * p + n)).toInt64 := rfl
theorem place_at {many pl : Nat → Int32} {it w : Int32} {i k : Nat} (hM : Mok many) (hi : i < nK many 0) (hk : k < 3) (hw : w = nI k) : (if thP many 0 (nI i) then (if rng w 0 2 then (if it = 0 then -2147483648 else pl (3 * (nI i).toNatClampNeg + w.toNatClampNeg)) else -2147483648) else -2147483648) = placeR it pl i k := by
  subst hw
  have h12 := (hM 0 (by decide)).2
  have hmx : mxK 0 = 12 := rfl
  have hI : (nI i).toNatClampNeg = i := tn_nI (by omega)
  have hK : (nI k).toNatClampNeg = k := tn_nI (by omega)
  have ht : thP many 0 (nI i) := ⟨by decide, by rw [nI_toInt (by omega)]; omega, by rw [nI_toInt (by omega)]; exact Int.ofNat_lt.mpr hi⟩
  rw [if_pos ht, if_pos (show rng (nI k) 0 2 from rng_nI (n := 2) (by omega)), hI, hK]
  rfl
def cntsX (dir many se : Nat → Int32) (g fi : Int32) (lm : Nat → Int32) (n : Nat) (h : Int64) : Int64 := fz (fun k x => dg x (cntX dir many se g fi lm (nI k))) n h
theorem cntsX_0 (dir many se : Nat → Int32) (g fi : Int32) (lm : Nat → Int32) (h : Int64) : cntsX dir many se g fi lm 0 h = h := rfl
theorem cntsX_s (dir many se : Nat → Int32) (g fi : Int32) (lm : Nat → Int32) (n : Nat) (h : Int64) : cntsX dir many se g fi lm (n + 1) h = 31 * cntsX dir many se g fi lm n h + (cntX dir many se g fi lm (nI n)).toInt64 := rfl
def loksX (many : Nat → Int32) (a b : Int32) (n : Nat) (h : Int64) : Int64 := fz (fun k x => dg x (looksR many a b (nI k))) n h
theorem loksX_0 (many : Nat → Int32) (a b : Int32) (h : Int64) : loksX many a b 0 h = h := rfl
theorem loksX_s (many : Nat → Int32) (a b : Int32) (n : Nat) (h : Int64) : loksX many a b (n + 1) h = 31 * loksX many a b n h + (looksR many a b (nI n)).toInt64 := rfl
def spotsX (st rk su fa vt : Nat → Int32) (n0 n : Nat) (h : Int64) : Int64 := fz (fun p x => skyP st rk su fa vt n0 p x) n h
theorem spotsX_0 (st rk su fa vt : Nat → Int32) (n0 : Nat) (h : Int64) : spotsX st rk su fa vt n0 0 h = h := rfl
theorem spotsX_s (st rk su fa vt : Nat → Int32) (n0 n : Nat) (h : Int64) : spotsX st rk su fa vt n0 (n + 1) h = skyP st rk su fa vt n0 n (spotsX st rk su fa vt n0 n h) := rfl
def starsX (it : Int32) (pl many dir se : Nat → Int32) (n : Nat) (h : Int64) : Int64 := fz (fun i x => skyS it pl many dir se i x) n h
theorem starsX_0 (it : Int32) (pl many dir se : Nat → Int32) (h : Int64) : starsX it pl many dir se 0 h = h := rfl
theorem starsX_s (it : Int32) (pl many dir se : Nat → Int32) (n : Nat) (h : Int64) : starsX it pl many dir se (n + 1) h = skyS it pl many dir se n (starsX it pl many dir se n h) := rfl
def thIX (tm tr : Nat → Int32) (q n : Nat) (h : Int64) : Int64 := fz (fun i h => dg (thgJ tm tr q i 4 h) (shareX tm tr (nI q) 0 (nI i))) n h
theorem thIX_0 (tm tr : Nat → Int32) (q : Nat) (h : Int64) : thIX tm tr q 0 h = h := rfl
theorem thIX_s (tm tr : Nat → Int32) (q n : Nat) (h : Int64) : thIX tm tr q (n + 1) h = 31 * thgJ tm tr q n 4 (thIX tm tr q n h) + (shareX tm tr (nI q) 0 (nI n)).toInt64 := rfl
theorem thgJ_sX (tm tr : Nat → Int32) (q i n : Nat) (h : Int64) : thgJ tm tr q i (n + 1) h = 31 * thgJ tm tr q i n h + (thingR tm tr (nI q) (nI i) (nI n)).toInt64 := rfl
def thQX (tm tr : Nat → Int32) (n : Nat) (h : Int64) : Int64 := fz (fun q h => thIX tm tr q 4 h) n h
theorem thQX_0 (tm tr : Nat → Int32) (h : Int64) : thQX tm tr 0 h = h := rfl
theorem thQX_s (tm tr : Nat → Int32) (n : Nat) (h : Int64) : thQX tm tr (n + 1) h = thIX tm tr n 4 (thQX tm tr n h) := by
  unfold thQX
  exact fz_s _ _ _
def four4 (h : Int64) (a b c d : Int32) : Int64 := dg (dg (dg (dg h a) b) c) d
