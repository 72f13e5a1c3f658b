/-! THE PLAIN LAW, 8b: each role of the new state has an old role's address, or a new one -/
set_option maxRecDepth 100000
def srA (ad : Ro → Nat) (g : Rq → Ro) (src : Rq → Rq ⊕ Nat) : Rq → Nat := fun q => match src q with
  | .inl q0 => ad (g q0)
  | .inr a => a
def srC (ad : Ro → Nat) (src : Rq → Rq ⊕ Nat) : Ro → Nat := fun r => match r with
  | .inl q => srA ad .inl src q
  | .inr q => ad (.inr q)
def srM (ad : Ro → Nat) (src : Rq → Rq ⊕ Nat) : Ro → Nat := fun r => match r with
  | .inl q => ad (.inl q)
  | .inr q => srA ad .inr src q
theorem srC_o {ad : Ro → Nat} {src : Rq → Rq ⊕ Nat} {q q0 : Rq} (h : src q = .inl q0) : srC ad src (.inl q) = ad (.inl q0) := by show srA ad .inl src q = _; unfold srA; rw [h]
theorem srC_n {ad : Ro → Nat} {src : Rq → Rq ⊕ Nat} {q : Rq} {a : Nat} (h : src q = .inr a) : srC ad src (.inl q) = a := by show srA ad .inl src q = _; unfold srA; rw [h]
theorem srM_o {ad : Ro → Nat} {src : Rq → Rq ⊕ Nat} {q q0 : Rq} (h : src q = .inl q0) : srM ad src (.inr q) = ad (.inr q0) := by show srA ad .inr src q = _; unfold srA; rw [h]
theorem srM_n {ad : Ro → Nat} {src : Rq → Rq ⊕ Nat} {q : Rq} {a : Nat} (h : src q = .inr a) : srM ad src (.inr q) = a := by show srA ad .inr src q = _; unfold srA; rw [h]
theorem R.genC2 {A ad : Ro → Nat} {s : Wo} {w w' : Hp} (h : R A ad s w) (c' : Sg) (ow' : Nat → Bool) (src : Rq → Rq ⊕ Nat) (T : Rq → Prop) (hst : ∀ q, stc (.inl q) = true → src q = .inl q)
    (hold : ∀ q q0, LvC c' ow' q → src q = .inl q0 → LvC s.c s.ow q0) (hnew : ∀ q g, LvC c' ow' q → src q = .inr g → ∀ r, Lv s r → ad r ≠ g) (hinj : ∀ q q', LvC c' ow' q → LvC c' ow' q' → src q = src q' → q = q')
    (hw : ∀ r, Lv s r → (∀ q, r = .inl q → ¬ T q) → w' (ad r) = w (ad r)) (hokT : ∀ q, LvC c' ow' q → (src q ≠ .inl q ∨ T q) → OkC c' ow' (srC ad src) (w' (srC ad src (.inl q))) q)
    (hokO : ∀ q x, LvC c' ow' q → src q = .inl q → ¬ T q → OkC s.c s.ow ad x q → OkC c' ow' (srC ad src) x q) (hro : ∀ a, w' a = Option.some roE → a = ad c_e) : R A (srC ad src) ((s.s_c c').s_ow ow') w' := by
  have hs : ∀ q, (∃ q0, src q = .inl q0) ∨ ∃ g, src q = .inr g := fun q => by
    cases src q with
    | inl q0 => exact Or.inl ⟨q0, rfl⟩
    | inr g => exact Or.inr ⟨g, rfl⟩
  refine ⟨?_, ?_, ?_, fun a ha => (hro a ha).trans (srC_o (hst (26, 0, 0, 0) (by decide))).symm⟩
  · rintro (q | q) hr
    · exact (srC_o (hst q hr)).trans (h.st _ hr)
    · exact h.st _ hr
  · rintro (q | q) (q' | q') h1 h2 e
    · have h1' : LvC c' ow' q := h1
      have h2' : LvC c' ow' q' := h2
      rcases hs q with ⟨q0, e1⟩ | ⟨g, e1⟩ <;> rcases hs q' with ⟨q1, e2⟩ | ⟨g', e2⟩
      · rw [srC_o e1, srC_o e2] at e
        have := h.inj _ _ (show Lv s (.inl q0) from hold q q0 h1' e1) (show Lv s (.inl q1) from hold q' q1 h2' e2) e
        exact congrArg Sum.inl (hinj q q' h1' h2' (by rw [e1, e2]; exact congrArg Sum.inl (Sum.inl.inj this)))
      · rw [srC_o e1, srC_n e2] at e
        exact absurd e (hnew q' g' h2' e2 (.inl q0) (hold q q0 h1' e1))
      · rw [srC_n e1, srC_o e2] at e
        exact absurd e.symm (hnew q g h1' e1 (.inl q1) (hold q' q1 h2' e2))
      · rw [srC_n e1, srC_n e2] at e
        exact congrArg Sum.inl (hinj q q' h1' h2' (by rw [e1, e2, e]))
    · have h1' : LvC c' ow' q := h1
      rcases hs q with ⟨q0, e1⟩ | ⟨g, e1⟩
      · rw [srC_o e1] at e
        exact absurd (h.inj (.inl q0) (.inr q') (hold q q0 h1' e1) h2 e) (fun z => by cases z)
      · rw [srC_n e1] at e
        exact absurd e.symm (hnew q g h1' e1 (.inr q') h2)
    · have h2' : LvC c' ow' q' := h2
      rcases hs q' with ⟨q0, e1⟩ | ⟨g, e1⟩
      · rw [srC_o e1] at e
        exact absurd (h.inj (.inr q) (.inl q0) h1 (hold q' q0 h2' e1) e) (fun z => by cases z)
      · rw [srC_n e1] at e
        exact absurd e (hnew q' g h2' e1 (.inr q) h1)
    · exact h.inj _ _ h1 h2 e
  · rintro (q | q) h1
    · have h1' : LvC c' ow' q := h1
      show OkC c' ow' (srC ad src) (w' (srC ad src (.inl q))) q
      by_cases n : src q ≠ .inl q ∨ T q
      · exact hokT q h1' n
      · have n1 : src q = .inl q := Decidable.byContradiction (fun z => n (Or.inl z))
        have n2 : ¬ T q := fun z => n (Or.inr z)
        have l1 := hold q q h1' n1
        rw [srC_o n1, hw (.inl q) l1 (fun q9 z => by cases z; exact n2)]
        exact hokO q _ h1' n1 n2 (h.ok (.inl q) l1)
    · show OkM s.m s.th s.sm s.o (srC ad src) (w' (ad (.inr q))) q
      rw [hw (.inr q) h1 (fun q9 z => by cases z)]
      exact OkM.congr (fun _ => rfl) (h.ok (.inr q) h1)
theorem R.genM2 {A ad : Ro → Nat} {s : Wo} {w w' : Hp} (h : R A ad s w) (c' : Sg) (th' : Int32) (sm' o' : Int64) (src : Rq → Rq ⊕ Nat) (T : Rq → Prop) (hst : ∀ q, stc (.inr q) = true → src q = .inl q)
    (hold : ∀ q q0, LvM c' q → src q = .inl q0 → LvM s.m q0) (hnew : ∀ q g, LvM c' q → src q = .inr g → ∀ r, Lv s r → ad r ≠ g) (hinj : ∀ q q', LvM c' q → LvM c' q' → src q = src q' → q = q')
    (hw : ∀ r, Lv s r → (∀ q, r = .inr q → ¬ T q) → w' (ad r) = w (ad r)) (hokT : ∀ q, LvM c' q → (src q ≠ .inl q ∨ T q) → OkM c' th' sm' o' (srM ad src) (w' (srM ad src (.inr q))) q)
    (hokO : ∀ q x, LvM c' q → src q = .inl q → ¬ T q → OkM s.m s.th s.sm s.o ad x q → OkM c' th' sm' o' (srM ad src) x q) (hro : ∀ a, w' a = Option.some roE → a = ad c_e) : R A (srM ad src) ((((s.s_m c').s_th th').s_sm sm').s_o o') w' := by
  have hs : ∀ q, (∃ q0, src q = .inl q0) ∨ ∃ g, src q = .inr g := fun q => by
    cases src q with
    | inl q0 => exact Or.inl ⟨q0, rfl⟩
    | inr g => exact Or.inr ⟨g, rfl⟩
  refine ⟨?_, ?_, ?_, fun a ha => hro a ha⟩
  · rintro (q | q) hr
    · exact h.st _ hr
    · exact (srM_o (hst q hr)).trans (h.st _ hr)
  · rintro (q | q) (q' | q') h1 h2 e
    · exact h.inj _ _ h1 h2 e
    · have h2' : LvM c' q' := h2
      rcases hs q' with ⟨q0, e1⟩ | ⟨g, e1⟩
      · rw [srM_o e1] at e
        exact absurd (h.inj (.inl q) (.inr q0) h1 (hold q' q0 h2' e1) e) (fun z => by cases z)
      · rw [srM_n e1] at e
        exact absurd e (hnew q' g h2' e1 (.inl q) h1)
    · have h1' : LvM c' q := h1
      rcases hs q with ⟨q0, e1⟩ | ⟨g, e1⟩
      · rw [srM_o e1] at e
        exact absurd (h.inj (.inr q0) (.inl q') (hold q q0 h1' e1) h2 e) (fun z => by cases z)
      · rw [srM_n e1] at e
        exact absurd e.symm (hnew q g h1' e1 (.inl q') h2)
    · have h1' : LvM c' q := h1
      have h2' : LvM c' q' := h2
      rcases hs q with ⟨q0, e1⟩ | ⟨g, e1⟩ <;> rcases hs q' with ⟨q1, e2⟩ | ⟨g', e2⟩
      · rw [srM_o e1, srM_o e2] at e
        have := h.inj _ _ (show Lv s (.inr q0) from hold q q0 h1' e1) (show Lv s (.inr q1) from hold q' q1 h2' e2) e
        exact congrArg Sum.inr (hinj q q' h1' h2' (by rw [e1, e2]; exact congrArg Sum.inl (Sum.inr.inj this)))
      · rw [srM_o e1, srM_n e2] at e
        exact absurd e (hnew q' g' h2' e2 (.inr q0) (hold q q0 h1' e1))
      · rw [srM_n e1, srM_o e2] at e
        exact absurd e.symm (hnew q g h1' e1 (.inr q1) (hold q' q1 h2' e2))
      · rw [srM_n e1, srM_n e2] at e
        exact congrArg Sum.inr (hinj q q' h1' h2' (by rw [e1, e2, e]))
  · rintro (q | q) h1
    · show OkC s.c s.ow (srM ad src) (w' (ad (.inl q))) q
      rw [hw (.inl q) h1 (fun q9 z => by cases z)]
      exact OkC.congr (fun _ => rfl) (h.ok (.inl q) h1)
    · have h1' : LvM c' q := h1
      show OkM c' th' sm' o' (srM ad src) (w' (srM ad src (.inr q))) q
      by_cases n : src q ≠ .inl q ∨ T q
      · exact hokT q h1' n
      · have n1 : src q = .inl q := Decidable.byContradiction (fun z => n (Or.inl z))
        have n2 : ¬ T q := fun z => n (Or.inr z)
        have l1 := hold q q h1' n1
        rw [srM_o n1, hw (.inr q) l1 (fun q9 z => by cases z; exact n2)]
        exact hokO q _ h1' n1 n2 (h.ok (.inr q) l1)
