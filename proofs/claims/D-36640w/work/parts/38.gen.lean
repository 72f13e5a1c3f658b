/-! THE PLAIN LAW, 8: other cells, or cells under other names -/
set_option maxRecDepth 100000
theorem R.genC {A ad ad' : Ro → Nat} {s : Wo} {w w' : Hp} (h : R A ad s w) (c' : Sg) (ow' : Nat → Bool) (N T : Rq → Prop) (hst : ∀ r, stc r = true → ad' r = ad r) (hM : ∀ q, ad' (.inr q) = ad (.inr q))
    (hold : ∀ q, LvC c' ow' q → ¬ N q → LvC s.c s.ow q ∧ ad' (.inl q) = ad (.inl q))
    (hN : ∀ q, LvC c' ow' q → N q → ∀ r, Lv s r → (∀ q', r = .inl q' → LvC c' ow' q' ∧ ¬ N q') → ad r ≠ ad' (.inl q))
    (hNN : ∀ q q', LvC c' ow' q → N q → LvC c' ow' q' → N q' → ad' (.inl q) = ad' (.inl q') → q = q')
    (hw : ∀ r, Lv s r → (∀ q, r = .inl q → LvC c' ow' q ∧ ¬ N q ∧ ¬ T q) → w' (ad r) = w (ad r))
    (hokN : ∀ q, LvC c' ow' q → (N q ∨ T q) → OkC c' ow' ad' (w' (ad' (.inl q))) q)
    (hokO : ∀ q x, LvC c' ow' q → ¬ N q → ¬ T q → OkC s.c s.ow ad x q → OkC c' ow' ad' x q)
    (hro : ∀ a, w' a = some roE → a = ad c_e) : R A ad' ((s.s_c c').s_ow ow') w' := by
  refine ⟨fun r hr => (hst r hr).trans (h.st r hr), ?_, ?_, fun a ha => (hro a ha).trans (hst c_e rfl).symm⟩
  · rintro (q | q) (q' | q') h1 h2 e
    · have h1' : LvC c' ow' q := h1
      have h2' : LvC c' ow' q' := h2
      by_cases n1 : N q
      · by_cases n2 : N q'
        · exact congrArg Sum.inl (hNN q q' h1' n1 h2' n2 e)
        · obtain ⟨l2, e2⟩ := hold q' h2' n2
          exact absurd (e.trans e2).symm (hN q h1' n1 (.inl q') l2 (fun q9 z => by cases z; exact ⟨h2', n2⟩))
      · obtain ⟨l1, e1⟩ := hold q h1' n1
        by_cases n2 : N q'
        · exact absurd (e1.symm.trans e) (hN q' h2' n2 (.inl q) l1 (fun q9 z => by cases z; exact ⟨h1', n1⟩))
        · obtain ⟨l2, e2⟩ := hold q' h2' n2
          exact h.inj _ _ (show Lv s (.inl q) from l1) (show Lv s (.inl q') from l2) (by rw [← e1, ← e2]; exact e)
    · have h1' : LvC c' ow' q := h1
      have e2 := hM q'
      by_cases n1 : N q
      · exact absurd (e.trans e2).symm (hN q h1' n1 (.inr q') h2 (fun q9 z => by cases z))
      · obtain ⟨l1, e1⟩ := hold q h1' n1
        exact h.inj _ _ (show Lv s (.inl q) from l1) (show Lv s (.inr q') from h2) (by rw [← e1, ← e2]; exact e)
    · have h2' : LvC c' ow' q' := h2
      have e1 := hM q
      by_cases n2 : N q'
      · exact absurd (e1.symm.trans e) (hN q' h2' n2 (.inr q) h1 (fun q9 z => by cases z))
      · obtain ⟨l2, e2⟩ := hold q' h2' n2
        exact h.inj _ _ (show Lv s (.inr q) from h1) (show Lv s (.inl q') from l2) (by rw [← e1, ← e2]; exact e)
    · exact h.inj _ _ (show Lv s (.inr q) from h1) (show Lv s (.inr q') from h2) (by rw [← hM q, ← hM q']; exact e)
  · rintro (q | q) h1
    · have h1' : LvC c' ow' q := h1
      show OkC c' ow' ad' (w' (ad' (.inl q))) q
      by_cases n1 : N q ∨ T q
      · exact hokN q h1' n1
      · have n2 : ¬ N q := fun z => n1 (Or.inl z)
        have n3 : ¬ T q := fun z => n1 (Or.inr z)
        obtain ⟨l1, e1⟩ := hold q h1' n2
        rw [e1, hw (.inl q) l1 (fun q9 z => by cases z; exact ⟨h1', n2, n3⟩)]
        exact hokO q _ h1' n2 n3 (h.ok (.inl q) l1)
    · show OkM s.m s.th s.sm s.o ad' (w' (ad' (.inr q))) q
      rw [hM q, hw (.inr q) h1 (fun q9 z => by cases z)]
      exact OkM.congr hM (h.ok (.inr q) h1)
theorem R.genM {A ad ad' : Ro → Nat} {s : Wo} {w w' : Hp} (h : R A ad s w) (c' : Sg) (th' : Int32) (sm' o' : Int64) (N T : Rq → Prop) (hst : ∀ r, stc r = true → ad' r = ad r) (hC : ∀ q, ad' (.inl q) = ad (.inl q))
    (hold : ∀ q, LvM c' q → ¬ N q → LvM s.m q ∧ ad' (.inr q) = ad (.inr q))
    (hN : ∀ q, LvM c' q → N q → ∀ r, Lv s r → (∀ q', r = .inr q' → LvM c' q' ∧ ¬ N q') → ad r ≠ ad' (.inr q))
    (hNN : ∀ q q', LvM c' q → N q → LvM c' q' → N q' → ad' (.inr q) = ad' (.inr q') → q = q')
    (hw : ∀ r, Lv s r → (∀ q, r = .inr q → LvM c' q ∧ ¬ N q ∧ ¬ T q) → w' (ad r) = w (ad r))
    (hokN : ∀ q, LvM c' q → (N q ∨ T q) → OkM c' th' sm' o' ad' (w' (ad' (.inr q))) q)
    (hokO : ∀ q x, LvM c' q → ¬ N q → ¬ T q → OkM s.m s.th s.sm s.o ad x q → OkM c' th' sm' o' ad' x q)
    (hro : ∀ a, w' a = some roE → a = ad c_e) : R A ad' ((((s.s_m c').s_th th').s_sm sm').s_o o') w' := by
  refine ⟨fun r hr => (hst r hr).trans (h.st r hr), ?_, ?_, fun a ha => (hro a ha).trans (hst c_e rfl).symm⟩
  · rintro (q | q) (q' | q') h1 h2 e
    · exact h.inj _ _ (show Lv s (.inl q) from h1) (show Lv s (.inl q') from h2) (by rw [← hC q, ← hC q']; exact e)
    · have h2' : LvM c' q' := h2
      have e1 := hC q
      by_cases n2 : N q'
      · exact absurd (e1.symm.trans e) (hN q' h2' n2 (.inl q) h1 (fun q9 z => by cases z))
      · obtain ⟨l2, e2⟩ := hold q' h2' n2
        exact h.inj _ _ (show Lv s (.inl q) from h1) (show Lv s (.inr q') from l2) (by rw [← e1, ← e2]; exact e)
    · have h1' : LvM c' q := h1
      have e2 := hC q'
      by_cases n1 : N q
      · exact absurd (e.trans e2).symm (hN q h1' n1 (.inl q') h2 (fun q9 z => by cases z))
      · obtain ⟨l1, e1⟩ := hold q h1' n1
        exact h.inj _ _ (show Lv s (.inr q) from l1) (show Lv s (.inl q') from h2) (by rw [← e1, ← e2]; exact e)
    · have h1' : LvM c' q := h1
      have h2' : LvM c' q' := h2
      by_cases n1 : N q
      · by_cases n2 : N q'
        · exact congrArg Sum.inr (hNN q q' h1' n1 h2' n2 e)
        · obtain ⟨l2, e2⟩ := hold q' h2' n2
          exact absurd (e.trans e2).symm (hN q h1' n1 (.inr q') l2 (fun q9 z => by cases z; exact ⟨h2', n2⟩))
      · obtain ⟨l1, e1⟩ := hold q h1' n1
        by_cases n2 : N q'
        · exact absurd (e1.symm.trans e) (hN q' h2' n2 (.inr q) l1 (fun q9 z => by cases z; exact ⟨h1', n1⟩))
        · obtain ⟨l2, e2⟩ := hold q' h2' n2
          exact h.inj _ _ (show Lv s (.inr q) from l1) (show Lv s (.inr q') from l2) (by rw [← e1, ← e2]; exact e)
  · rintro (q | q) h1
    · show OkC s.c s.ow ad' (w' (ad' (.inl q))) q
      rw [hC q, hw (.inl q) h1 (fun q9 z => by cases z)]
      exact OkC.congr hC (h.ok (.inl q) h1)
    · have h1' : LvM c' q := h1
      show OkM c' th' sm' o' ad' (w' (ad' (.inr q))) q
      by_cases n1 : N q ∨ T q
      · exact hokN q h1' n1
      · have n2 : ¬ N q := fun z => n1 (Or.inl z)
        have n3 : ¬ T q := fun z => n1 (Or.inr z)
        obtain ⟨l1, e1⟩ := hold q h1' n2
        rw [e1, hw (.inr q) l1 (fun q9 z => by cases z; exact ⟨h1', n2, n3⟩)]
        exact hokO q _ h1' n2 n3 (h.ok (.inr q) l1)
/-- what nobody keeps stays as it is, and nobody keeps it -/
def Jk (s : Wo) (ad : Ro → Nat) (w : Hp) (s' : Wo) (ad' : Ro → Nat) (w' : Hp) : Prop := ∀ p e, w p = some e → (∀ r, Lv s r → ad r ≠ p) → w' p = some e ∧ ∀ r, Lv s' r → ad' r ≠ p
theorem Jk.refl {s : Wo} {ad : Ro → Nat} {w : Hp} : Jk s ad w s ad w := fun _ _ h1 h2 => ⟨h1, h2⟩
theorem Jk.trans {s1 s2 s3 : Wo} {a1 a2 a3 : Ro → Nat} {w1 w2 w3 : Hp} (h1 : Jk s1 a1 w1 s2 a2 w2) (h2 : Jk s2 a2 w2 s3 a3 w3) : Jk s1 a1 w1 s3 a3 w3 := fun p e hp ha => by
  obtain ⟨x1, x2⟩ := h1 p e hp ha
  exact h2 p e x1 x2
/-- a write into a cell that is kept -/
theorem Jk.put {s s' : Wo} {ad : Ro → Nat} {w : Hp} {r : Ro} {e : hE} (hl : Lv s r) (hL : ∀ r, Lv s' r → Lv s r) : Jk s ad w s' ad (hu w (ad r) e) := fun p e9 hp ha =>
  ⟨by rw [hu_n (Ne.symm (ha r hl))]; exact hp, fun r9 h9 => ha r9 (hL r9 h9)⟩
