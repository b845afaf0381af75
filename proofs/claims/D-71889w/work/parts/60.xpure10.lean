/-! PURE WORDS of the tracker: sheets -/
abbrev sT (fm : Nat) : Nat := if fm = 0 then 3 else if fm = 1 then 4 else 0
theorem xk_nmB {D : va_G} {cl : List vw_C} {t : Nat → ClassId} {s : State} (h : va_K D cl (Tys t) s) : s.vm.findClass "[B" = some (t 3) := by
  have h1 : s.vm.findClass ("[" ++ FieldType.byte.toString) = some (t 3) := (h.2 3 (t 3, .byte) rfl).2
  have e : "[" ++ FieldType.byte.toString = "[B" := by decide
  rw [← e]; exact h1
theorem xk_nmS {D : va_G} {cl : List vw_C} {t : Nat → ClassId} {s : State} (h : va_K D cl (Tys t) s) : s.vm.findClass "[S" = some (t 4) := by
  have h1 : s.vm.findClass ("[" ++ FieldType.short.toString) = some (t 4) := (h.2 4 (t 4, .short) rfl).2
  have e : "[" ++ FieldType.short.toString = "[S" := by decide
  rw [← e]; exact h1
theorem xk_nmI {D : va_G} {cl : List vw_C} {t : Nat → ClassId} {s : State} (h : va_K D cl (Tys t) s) : s.vm.findClass "[I" = some (t 0) := by
  have h1 : s.vm.findClass ("[" ++ FieldType.int.toString) = some (t 0) := (h.2 0 (t 0, .int) rfl).2
  have e : "[" ++ FieldType.int.toString = "[I" := by decide
  rw [← e]; exact h1
/-- a sheet's row -/
def RowOk (t : Nat → ClassId) (K : XK) (s fm n : Nat) (g : Nat → Int32) : Prop := K.fo s = nI fm ∧ fm < 3 ∧ n ≤ 60 ∧ ∃ q, K.ro s = some q ∧ q ∈ K.L ∧ K.f q = .inl (t (sT fm), n, .inl g)
/-- what of the sheets is -/
def ShtOk (t : Nat → ClassId) (K : XK) (forms sizes items : Nat → Int32) : Prop := (∀ s : Nat, s < 4 → (forms s = -1 ∧ K.ro s = none) ∨ ∃ (fm n : Nat) (g : Nat → Int32), forms s = nI fm ∧ sizes s = nI n ∧ RowOk t K s fm n g ∧ ∀ i, i < n → g i = items (60 * s + i)) ∧ ∀ s u q : Nat, s < 4 → u < 4 → K.ro s = some q → K.ro u = some q → s = u
theorem ShtOk.grow {t : Nat → ClassId} {K K' : XK} {forms sizes items : Nat → Int32} (h : ShtOk t K forms sizes items) (g : Grw K K') : ShtOk t K' forms sizes items := by
  refine ⟨fun s hs => ?_, fun s u q hs hu h1 h2 => h.2 s u q hs hu (by rw [← g.2.2.1]; exact h1) (by rw [← g.2.2.1]; exact h2)⟩
  rcases h.1 s hs with ⟨h1, h2⟩ | ⟨fm, n, f, h1, h2, ⟨h3, h4, h5, q, h6, h7, h8⟩, h9⟩
  · exact Or.inl ⟨h1, by rw [g.2.2.1]; exact h2⟩
  · exact Or.inr ⟨fm, n, f, h1, h2, ⟨by rw [g.2.1]; exact h3, h4, h5, q, by rw [g.2.2.1]; exact h6, (g.2.2.2 q h7).1, (g.2.2.2 q h7).2.trans h8⟩, h9⟩
