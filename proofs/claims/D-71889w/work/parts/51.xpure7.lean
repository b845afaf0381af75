/-! the tracker's trays; a float's bits -/
/-- a tray's class, by what it holds -/
abbrev hTy (h : Int32) : Nat := if h = 0 then 6 else if h = 1 then 7 else 5
theorem hT_ty (t : Nat → ClassId) (h : Int32) : ∃ ty : FieldType, (Tys t)[hTy h]? = some (t (hTy h), ty) ∧ ty.isReference = true := by
  unfold hTy
  split
  · exact ⟨_, rfl, rfl⟩
  · split
    · exact ⟨_, rfl, rfl⟩
    · exact ⟨_, rfl, rfl⟩
/-- what of the trays is: which, where, what they hold -/
def TryOk (t : Nat → ClassId) (K : XK) (tray laidMany holds : Nat → Int32) : Prop := Tok laidMany ∧ ∀ j : Nat, j < 4 → ∃ (q : Nat) (g : Nat → Option Nat), K.rt j = some q ∧ q ∈ K.L ∧ K.f q = .inl (t (hTy (holds j)), 8, .inr (.inr (.inr (.inr g)))) ∧
  ∀ i : Nat, i < zK laidMany j → ∃ k b : Nat, k < 2 ∧ tray (32 * j + 4 * i) = nI k ∧ g i = some b ∧ b ∈ K.L ∧ K.f b = .inr (4 + k, [.int (tray (32 * j + 4 * i + 1)), .int (tray (32 * j + 4 * i + 1 + 1)), .int (tray (32 * j + 4 * i + 1 + 2))])
abbrev nnP (r : UInt32) : Prop := FP.Core.fIsNaN r = false
/-- the shares are numbers -/
def TryNn (tray laidMany : Nat → Int32) : Prop := ∀ j i h : Nat, j < 4 → i < zK laidMany j → h < zK laidMany j → nnP (FP.fdiv (FP.i2f (prodF tray (32 * j + 4 * i) (32 * j + 4 * h))) (FP.i2f (prodF tray (32 * j + 4 * i) (32 * j + 4 * i))))
abbrev dotF (f g : Nat → Int32) (b d : Nat) : Int32 := dt3 (f b) (f (b + 1)) (f (b + 2)) (g d) (g (d + 1)) (g (d + 2))
theorem dotF_prod (f : Nat → Int32) (P Q : Nat) : dotF f f (P + 1) (Q + 1) = prodF f P Q := by
  unfold dotF dt3 prodF
  rw [Int32.zero_add]
/-- a share's bits -/
def shF (x y : Int32) : Int32 := (FP.fdiv (FP.i2f x) (FP.i2f y)).toInt32
abbrev shN (x y : Int32) : Prop := nnP (FP.fdiv (FP.i2f x) (FP.i2f y))
theorem nn_dec {r : UInt32} (h : nnP r) : ¬ FP.Core.decode FP.Core.b32 r.toNat = .nan := by
  intro q
  unfold nnP FP.Core.fIsNaN FP.Core.isNaN at h
  rw [decide_eq_true q] at h
  cases h
theorem sh_n32 {r : UInt32} (h : nnP r) : vf_n32 r := by
  have h1 := nn_dec h
  unfold vf_n32
  rw [UInt32.le_iff_toNat_le, UInt32.toNat_and]
  show r.toNat &&& (2 ^ 31 - 1) ≤ 2139095040
  rw [Nat.and_two_pow_sub_one_eq_mod]
  generalize r.toNat = n at h1
  unfold FP.Core.decode at h1
  have e1 : FP.Core.fieldE FP.Core.b32 n = n / 8388608 % 256 := rfl
  have e2 : FP.Core.fieldT FP.Core.b32 n = n % 8388608 := rfl
  have e3 : FP.Core.b32.exps = 256 := rfl
  rw [e1, e2, e3] at h1
  by_cases g1 : n / 8388608 % 256 = 256 - 1
  · rw [if_pos g1] at h1
    by_cases g2 : n % 8388608 = 0
    · omega
    · rw [if_neg g2] at h1
      exact absurd rfl h1
  · omega
theorem cmp_selfI (x : Int) : compare x x = .eq := by
  show compareOfLessAndEq x x = .eq
  unfold compareOfLessAndEq
  rw [if_neg (Int.lt_irrefl x), if_pos rfl]
theorem sh_cmp {r : UInt32} (h : nnP r) : Op.cmpValue (FP.fcmp r r) .l = 0 := by
  have h1 := nn_dec h
  have e : FP.fcmp r r = some .eq := by
    show FP.Core.order (FP.Core.decode FP.Core.b32 r.toNat) (FP.Core.decode FP.Core.b32 r.toNat) = some .eq
    generalize FP.Core.decode FP.Core.b32 r.toNat = d at h1
    cases d with
    | nan => exact absurd rfl h1
    | inf => exact congrArg some (cmp_selfI _)
    | fin s c q => exact congrArg some (cmp_selfI _)
  rw [e]
  rfl
theorem cd_J6_isNaN : yJ6_isNaN.cls = RJ6 ∧ yJ6_isNaN.cls ≠ "java/lang/invoke/MethodHandle" ∧ yJ6_isNaN.cls ≠ "java/lang/invoke/VarHandle" ∧ (parseMethodDescriptor yJ6_isNaN.desc).map (fun d => d.parameters.length) = some 1 := by decide +kernel
set_option maxHeartbeats 4000000 in
theorem mx_isNaN (l : Launch) (r : UInt32) (hn : nnP r) : Met l yJ6_isNaN (ws_ yJ6_isNaN cJ6_isNaN 1 (some .boolean)) (rm_ 0 0 0 0) (va_Pc [.float r] (fun _ => True)) (vp_Si (fun rv => rv = 0)) 0 0 (fun _ => False) := by
  refine mkf_W (by decide +kernel) (Nat.le_of_ble_eq_true rfl) ?_
  intro p e s m below meth c ls hx hb hml hr hlk hts hown hnm hv hl
  have hl : lv_has ls 1 [(0, .float r)] := hl
  refine lv_fload_n hx hb dJ6_isNaN_0 rfl (lv_at hl 0 rfl) ?_
  refine lv_fload_n hx hb dJ6_isNaN_1 rfl (lv_at hl 0 rfl) ?_
  refine lv_fcmp hx hb dJ6_isNaN_2 ?_
  refine r_top (y := 0) (sh_cmp hn) ?_
  refine lv_if_eq (tgt := 10) hx hb dJ6_isNaN_3 (by decide) (fun c_1 => ?_) (fun c_1 => (c_1 rfl).elim)
  refine lv_iconst hx hb dJ6_isNaN_10 rfl ?_
  exact W.zret (v := 0) hx hb hr rfl (fun tt ht _ => ⟨_, rfl, rfl, ht⟩) (fun _ h => by cases h) dJ6_isNaN_11 hlk
set_option maxHeartbeats 4000000 in
theorem mx_bits (l : Launch) (r : UInt32) (hn : nnP r) : Met l yJ6_floatToIntBits (ws_ yJ6_floatToIntBits cJ6_floatToIntBits 1 (some .int)) (rm_ 0 1 0 0) (va_Pc [.float r] (fun _ => True)) (vp_Si (fun rv => rv = r.toInt32)) 0 0 (fun _ => False) := by
  refine mkf_W (by decide +kernel) (Nat.le_of_ble_eq_true rfl) ?_
  intro p e s m below meth c ls hx hb hml hr hlk hts hown hnm hv hl
  have hl : lv_has ls 1 [(0, .float r)] := hl
  refine lv_fload_n hx hb dJ6_floatToIntBits_0 rfl (lv_at hl 0 rfl) ?_
  refine vp_callSi (W.runS (As := [.float r]) (rest := []) ⟨hx, hb, hml, hown, hts⟩ (mx_isNaN l r hn) (va_cwS 1 hts (lw_S q574 q575 q94 q576) rfl rfl rfl cd_J6_isNaN.2 ⟨Nat.le_of_ble_eq_true rfl, Nat.le_of_ble_eq_true rfl⟩) ⟨pT_fb, fun U hU hW => ⟨rfl, trivial⟩⟩ rfl rfl hl.1 rfl (lv_room (Nat.le_of_ble_eq_true rfl)) dJ6_floatToIntBits_1 ⟨Nat.le_of_ble_eq_true rfl, Nat.le_of_ble_eq_true rfl⟩) (fun r9 hr9 => ?_)
  subst hr9
  refine lv_if_ne (tgt := 12) hx hb dJ6_floatToIntBits_4 (by decide) (fun c_1 => (c_1 rfl).elim) (fun c_1 => ?_)
  refine lv_fload_n hx hb dJ6_floatToIntBits_7 rfl (lv_at hl 0 rfl) ?_
  refine vn_f2i hx hb (hml.trans hl.1.symm) hown (hts _ q577) (hts _ q579) (hts _ q578) (hts _ q94) (Nat.le_of_ble_eq_true rfl) (Nat.le_of_ble_eq_true rfl) dJ6_floatToIntBits_8 ?_
  exact W.iret (v := r.toInt32) hx hb hr (fun tt ht _ => ⟨_, rfl, rfl, ht⟩) (fun _ h => by cases h) dJ6_floatToIntBits_11 hlk
theorem thg_at {tray : Nat → Int32} {P k : Nat} (h : tray P = nI k) (w : Nat) : (if w = 0 then nI k else tray (P + 1 + (w - 1))) = tray (P + w) := by
  by_cases hw : w = 0
  · subst hw
    rw [if_pos rfl]
    exact h.symm
  · rw [if_neg hw]
    congr 1
    omega
theorem nI_sub1 {w : Nat} (h0 : 0 < w) (h : w < 2 ^ 31) : nI w - 1 = nI (w - 1) := by
  obtain ⟨v, rfl⟩ : ∃ v, w = v + 1 := ⟨w - 1, by omega⟩
  exact nI_pred v
def shareX (tm tray : Nat → Int32) (t i j : Int32) : Int32 :=
  if thgP tm t i then (if thgP tm t j then shF (prodF tray (32 * t.toNatClampNeg + 4 * i.toNatClampNeg) (32 * t.toNatClampNeg + 4 * j.toNatClampNeg)) (prodF tray (32 * t.toNatClampNeg + 4 * i.toNatClampNeg) (32 * t.toNatClampNeg + 4 * i.toNatClampNeg)) else -2147483648) else -2147483648
