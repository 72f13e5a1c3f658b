/-! THE PLAIN LAW, 8a: where a cell points (printed by gen/mkkid.py) -/
set_option maxRecDepth 100000
def adU (ad : Ro → Nat) (r0 : Ro) (x : Nat) : Ro → Nat := fun r => if r = r0 then x else ad r
theorem adU_s {ad : Ro → Nat} {r0 : Ro} {x : Nat} : adU ad r0 x r0 = x := if_pos rfl
theorem adU_n {ad : Ro → Nat} {r0 r : Ro} {x : Nat} (h : r ≠ r0) : adU ad r0 x r = ad r := if_neg h
def kidC (r r1 : Rq) : Prop := let a := r.2.1; let b := r.2.2.1; let k := r.2.2.2; match r.1 with
  | 0 => r1 = (1, 0, 0, 0) ∨ r1 = (2, 0, 0, 0) ∨ r1 = (3, 0, 0, 0) ∨ r1 = (8, 0, 0, 0) ∨ r1 = (16, 0, 0, 0) ∨ r1 = (20, 0, 0, 0) ∨ r1 = (25, 0, 0, 0)
  | 1 => False
  | 2 => False
  | 3 => (∃ x9 : Nat, r1 = (4, x9, 0, 0))
  | 4 => r1 = (5, a, 0, 0) ∨ r1 = (6, a, 0, 0) ∨ r1 = (7, a, 0, 0)
  | 5 => False
  | 6 => False
  | 7 => False
  | 8 => (∃ x9 : Nat, r1 = (9, x9, 0, 0))
  | 9 => (∃ x9 : Nat, r1 = (10, a, x9, 0))
  | 10 => r1 = (13, a, b, 0) ∨ r1 = (13, a, b, 1) ∨ r1 = (13, a, b, 2) ∨ r1 = (15, a, b, 0) ∨ r1 = (11, a, b, 0)
  | 11 => (∃ x9 : Nat, r1 = (12, a, b, x9))
  | 12 => False
  | 13 => r1 = (14, a, b, k)
  | 14 => False
  | 15 => False
  | 16 => r1 = (17, 0, 0, 0) ∨ r1 = (26, 0, 0, 0)
  | 17 => (∃ x9 : Nat, r1 = (18, x9, 0, 0))
  | 18 => r1 = (19, a, 0, 0)
  | 19 => False
  | 20 => r1 = (21, 0, 0, 0) ∨ r1 = (26, 0, 0, 0)
  | 21 => (∃ x9 : Nat, r1 = (22, x9, 0, 0))
  | 22 => r1 = (23, a, 0, 0) ∨ r1 = (26, 0, 0, 0)
  | 23 => (∃ x9 : Nat, r1 = (24, a, x9, 0))
  | 24 => False
  | 25 => False
  | 26 => False
  | _ => False
theorem OkC.congr2 {c : Sg} {ow : Nat → Bool} {ad ad' : Ro → Nat} {w : Option hE} {r : Rq} (e : ∀ q, kidC r q → ad' (.inl q) = ad (.inl q)) (h : OkC c ow ad w r) : OkC c ow ad' w r := by
  obtain ⟨t, a, b, k⟩ := r
  match t, e, h with
  | 0, e, h =>
    have e0 : ad' (.inl (1, 0, 0, 0)) = ad (.inl (1, 0, 0, 0)) := e _ (Or.inl rfl)
    have e1 : ad' (.inl (2, 0, 0, 0)) = ad (.inl (2, 0, 0, 0)) := e _ (Or.inr (Or.inl rfl))
    have e2 : ad' (.inl (3, 0, 0, 0)) = ad (.inl (3, 0, 0, 0)) := e _ (Or.inr (Or.inr (Or.inl rfl)))
    have e3 : ad' (.inl (8, 0, 0, 0)) = ad (.inl (8, 0, 0, 0)) := e _ (Or.inr (Or.inr (Or.inr (Or.inl rfl))))
    have e4 : ad' (.inl (16, 0, 0, 0)) = ad (.inl (16, 0, 0, 0)) := e _ (Or.inr (Or.inr (Or.inr (Or.inr (Or.inl rfl)))))
    have e5 : ad' (.inl (20, 0, 0, 0)) = ad (.inl (20, 0, 0, 0)) := e _ (Or.inr (Or.inr (Or.inr (Or.inr (Or.inr (Or.inl rfl))))))
    have e6 : ad' (.inl (25, 0, 0, 0)) = ad (.inl (25, 0, 0, 0)) := e _ (Or.inr (Or.inr (Or.inr (Or.inr (Or.inr (Or.inr rfl))))))
    simp only [OkC] at h ⊢
    simp only [e0, e1, e2, e3, e4, e5, e6]
    exact h
  | 1, e, h => exact h
  | 2, e, h => exact h
  | 3, e, h =>
    have e0 : ∀ x9 : Nat, ad' (.inl (4, x9, 0, 0)) = ad (.inl (4, x9, 0, 0)) := fun x9 => e _ ⟨_, rfl⟩
    simp only [OkC] at h ⊢
    simp only [e0]
    exact h
  | 4, e, h =>
    have e0 : ad' (.inl (5, a, 0, 0)) = ad (.inl (5, a, 0, 0)) := e _ (Or.inl rfl)
    have e1 : ad' (.inl (6, a, 0, 0)) = ad (.inl (6, a, 0, 0)) := e _ (Or.inr (Or.inl rfl))
    have e2 : ad' (.inl (7, a, 0, 0)) = ad (.inl (7, a, 0, 0)) := e _ (Or.inr (Or.inr rfl))
    simp only [OkC] at h ⊢
    simp only [e0, e1, e2]
    exact h
  | 5, e, h => exact h
  | 6, e, h => exact h
  | 7, e, h => exact h
  | 8, e, h =>
    have e0 : ∀ x9 : Nat, ad' (.inl (9, x9, 0, 0)) = ad (.inl (9, x9, 0, 0)) := fun x9 => e _ ⟨_, rfl⟩
    simp only [OkC] at h ⊢
    simp only [e0]
    exact h
  | 9, e, h =>
    have e0 : ∀ x9 : Nat, ad' (.inl (10, a, x9, 0)) = ad (.inl (10, a, x9, 0)) := fun x9 => e _ ⟨_, rfl⟩
    simp only [OkC] at h ⊢
    simp only [e0]
    exact h
  | 10, e, h =>
    have e0 : ad' (.inl (13, a, b, 0)) = ad (.inl (13, a, b, 0)) := e _ (Or.inl rfl)
    have e1 : ad' (.inl (13, a, b, 1)) = ad (.inl (13, a, b, 1)) := e _ (Or.inr (Or.inl rfl))
    have e2 : ad' (.inl (13, a, b, 2)) = ad (.inl (13, a, b, 2)) := e _ (Or.inr (Or.inr (Or.inl rfl)))
    have e3 : ad' (.inl (15, a, b, 0)) = ad (.inl (15, a, b, 0)) := e _ (Or.inr (Or.inr (Or.inr (Or.inl rfl))))
    have e4 : ad' (.inl (11, a, b, 0)) = ad (.inl (11, a, b, 0)) := e _ (Or.inr (Or.inr (Or.inr (Or.inr rfl))))
    simp only [OkC] at h ⊢
    simp only [e0, e1, e2, e3, e4]
    exact h
  | 11, e, h =>
    have e0 : ∀ x9 : Nat, ad' (.inl (12, a, b, x9)) = ad (.inl (12, a, b, x9)) := fun x9 => e _ ⟨_, rfl⟩
    simp only [OkC] at h ⊢
    simp only [e0]
    exact h
  | 12, e, h => exact h
  | 13, e, h =>
    have e0 : ad' (.inl (14, a, b, k)) = ad (.inl (14, a, b, k)) := e _ rfl
    simp only [OkC] at h ⊢
    simp only [e0]
    exact h
  | 14, e, h => exact h
  | 15, e, h => exact h
  | 16, e, h =>
    have e0 : ad' (.inl (17, 0, 0, 0)) = ad (.inl (17, 0, 0, 0)) := e _ (Or.inl rfl)
    have e1 : ad' (.inl (26, 0, 0, 0)) = ad (.inl (26, 0, 0, 0)) := e _ (Or.inr rfl)
    simp only [OkC] at h ⊢
    simp only [e0, e1]
    exact h
  | 17, e, h =>
    have e0 : ∀ x9 : Nat, ad' (.inl (18, x9, 0, 0)) = ad (.inl (18, x9, 0, 0)) := fun x9 => e _ ⟨_, rfl⟩
    simp only [OkC] at h ⊢
    simp only [e0]
    exact h
  | 18, e, h =>
    have e0 : ad' (.inl (19, a, 0, 0)) = ad (.inl (19, a, 0, 0)) := e _ rfl
    simp only [OkC] at h ⊢
    simp only [e0]
    exact h
  | 19, e, h => exact h
  | 20, e, h =>
    have e0 : ad' (.inl (21, 0, 0, 0)) = ad (.inl (21, 0, 0, 0)) := e _ (Or.inl rfl)
    have e1 : ad' (.inl (26, 0, 0, 0)) = ad (.inl (26, 0, 0, 0)) := e _ (Or.inr rfl)
    simp only [OkC] at h ⊢
    simp only [e0, e1]
    exact h
  | 21, e, h =>
    have e0 : ∀ x9 : Nat, ad' (.inl (22, x9, 0, 0)) = ad (.inl (22, x9, 0, 0)) := fun x9 => e _ ⟨_, rfl⟩
    simp only [OkC] at h ⊢
    simp only [e0]
    exact h
  | 22, e, h =>
    have e0 : ad' (.inl (23, a, 0, 0)) = ad (.inl (23, a, 0, 0)) := e _ (Or.inl rfl)
    have e1 : ad' (.inl (26, 0, 0, 0)) = ad (.inl (26, 0, 0, 0)) := e _ (Or.inr rfl)
    simp only [OkC] at h ⊢
    simp only [e0, e1]
    exact h
  | 23, e, h =>
    have e0 : ∀ x9 : Nat, ad' (.inl (24, a, x9, 0)) = ad (.inl (24, a, x9, 0)) := fun x9 => e _ ⟨_, rfl⟩
    simp only [OkC] at h ⊢
    simp only [e0]
    exact h
  | 24, e, h => exact h
  | 25, e, h => exact h
  | 26, e, h => exact h
  | n + 27, e, h => exact h.elim
def kidM (r r1 : Rq) : Prop := let a := r.2.1; let b := r.2.2.1; let k := r.2.2.2; match r.1 with
  | 0 => r1 = (1, 0, 0, 0) ∨ r1 = (2, 0, 0, 0) ∨ r1 = (3, 0, 0, 0) ∨ r1 = (4, 0, 0, 0) ∨ r1 = (5, 0, 0, 0) ∨ r1 = (6, 0, 0, 0) ∨ r1 = (9, 0, 0, 0) ∨ r1 = (9, 1, 0, 0) ∨ r1 = (9, 2, 0, 0) ∨ r1 = (9, 3, 0, 0) ∨ r1 = (9, 4, 0, 0) ∨ r1 = (9, 5, 0, 0) ∨ r1 = (9, 6, 0, 0) ∨ r1 = (9, 7, 0, 0) ∨ r1 = (9, 8, 0, 0) ∨ r1 = (9, 9, 0, 0) ∨ r1 = (11, 0, 0, 0) ∨ r1 = (15, 0, 0, 0) ∨ r1 = (19, 0, 0, 0) ∨ r1 = (23, 0, 0, 0) ∨ r1 = (25, 0, 0, 0)
  | 1 => False
  | 2 => False
  | 3 => False
  | 4 => False
  | 5 => False
  | 6 => (∃ x9 : Nat, r1 = (7, x9, 0, 0))
  | 7 => (∃ x9 : Nat, r1 = (8, a, x9, 0))
  | 8 => False
  | 9 => (∃ x9 : Nat, r1 = (10, a, x9, 0))
  | 10 => False
  | 11 => (∃ x9 : Nat, r1 = (12, x9, 0, 0))
  | 12 => (∃ x9 : Nat, r1 = (13, a, x9, 0))
  | 13 => (∃ x9 : Nat, r1 = (14, a, b, x9))
  | 14 => False
  | 15 => (∃ x9 : Nat, r1 = (16, x9, 0, 0))
  | 16 => (∃ x9 : Nat, r1 = (17, a, x9, 0))
  | 17 => (∃ x9 : Nat, r1 = (18, a, b, x9))
  | 18 => False
  | 19 => (∃ x9 : Nat, r1 = (20, x9, 0, 0))
  | 20 => (∃ x9 : Nat, r1 = (21, a, x9, 0))
  | 21 => (∃ x9 : Nat, r1 = (22, a, b, x9))
  | 22 => False
  | 23 => (∃ x9 : Nat, r1 = (24, x9, 0, 0))
  | 24 => False
  | 25 => (∃ x9 : Nat, r1 = (26, x9, 0, 0))
  | 26 => False
  | 27 => False
  | _ => False
theorem OkM.congr2 {c : Sg} {th : Int32} {sm o9 : Int64} {ad ad' : Ro → Nat} {w : Option hE} {r : Rq} (e : ∀ q, kidM r q → ad' (.inr q) = ad (.inr q)) (h : OkM c th sm o9 ad w r) : OkM c th sm o9 ad' w r := by
  obtain ⟨t, a, b, k⟩ := r
  match t, e, h with
  | 0, e, h =>
    have e0 : ad' (.inr (1, 0, 0, 0)) = ad (.inr (1, 0, 0, 0)) := e _ (Or.inl rfl)
    have e1 : ad' (.inr (2, 0, 0, 0)) = ad (.inr (2, 0, 0, 0)) := e _ (Or.inr (Or.inl rfl))
    have e2 : ad' (.inr (3, 0, 0, 0)) = ad (.inr (3, 0, 0, 0)) := e _ (Or.inr (Or.inr (Or.inl rfl)))
    have e3 : ad' (.inr (4, 0, 0, 0)) = ad (.inr (4, 0, 0, 0)) := e _ (Or.inr (Or.inr (Or.inr (Or.inl rfl))))
    have e4 : ad' (.inr (5, 0, 0, 0)) = ad (.inr (5, 0, 0, 0)) := e _ (Or.inr (Or.inr (Or.inr (Or.inr (Or.inl rfl)))))
    have e5 : ad' (.inr (6, 0, 0, 0)) = ad (.inr (6, 0, 0, 0)) := e _ (Or.inr (Or.inr (Or.inr (Or.inr (Or.inr (Or.inl rfl))))))
    have e6 : ad' (.inr (9, 0, 0, 0)) = ad (.inr (9, 0, 0, 0)) := e _ (Or.inr (Or.inr (Or.inr (Or.inr (Or.inr (Or.inr (Or.inl rfl)))))))
    have e7 : ad' (.inr (9, 1, 0, 0)) = ad (.inr (9, 1, 0, 0)) := e _ (Or.inr (Or.inr (Or.inr (Or.inr (Or.inr (Or.inr (Or.inr (Or.inl rfl))))))))
    have e8 : ad' (.inr (9, 2, 0, 0)) = ad (.inr (9, 2, 0, 0)) := e _ (Or.inr (Or.inr (Or.inr (Or.inr (Or.inr (Or.inr (Or.inr (Or.inr (Or.inl rfl)))))))))
    have e9 : ad' (.inr (9, 3, 0, 0)) = ad (.inr (9, 3, 0, 0)) := e _ (Or.inr (Or.inr (Or.inr (Or.inr (Or.inr (Or.inr (Or.inr (Or.inr (Or.inr (Or.inl rfl))))))))))
    have e10 : ad' (.inr (9, 4, 0, 0)) = ad (.inr (9, 4, 0, 0)) := e _ (Or.inr (Or.inr (Or.inr (Or.inr (Or.inr (Or.inr (Or.inr (Or.inr (Or.inr (Or.inr (Or.inl rfl)))))))))))
    have e11 : ad' (.inr (9, 5, 0, 0)) = ad (.inr (9, 5, 0, 0)) := e _ (Or.inr (Or.inr (Or.inr (Or.inr (Or.inr (Or.inr (Or.inr (Or.inr (Or.inr (Or.inr (Or.inr (Or.inl rfl))))))))))))
    have e12 : ad' (.inr (9, 6, 0, 0)) = ad (.inr (9, 6, 0, 0)) := e _ (Or.inr (Or.inr (Or.inr (Or.inr (Or.inr (Or.inr (Or.inr (Or.inr (Or.inr (Or.inr (Or.inr (Or.inr (Or.inl rfl)))))))))))))
    have e13 : ad' (.inr (9, 7, 0, 0)) = ad (.inr (9, 7, 0, 0)) := e _ (Or.inr (Or.inr (Or.inr (Or.inr (Or.inr (Or.inr (Or.inr (Or.inr (Or.inr (Or.inr (Or.inr (Or.inr (Or.inr (Or.inl rfl))))))))))))))
    have e14 : ad' (.inr (9, 8, 0, 0)) = ad (.inr (9, 8, 0, 0)) := e _ (Or.inr (Or.inr (Or.inr (Or.inr (Or.inr (Or.inr (Or.inr (Or.inr (Or.inr (Or.inr (Or.inr (Or.inr (Or.inr (Or.inr (Or.inl rfl)))))))))))))))
    have e15 : ad' (.inr (9, 9, 0, 0)) = ad (.inr (9, 9, 0, 0)) := e _ (Or.inr (Or.inr (Or.inr (Or.inr (Or.inr (Or.inr (Or.inr (Or.inr (Or.inr (Or.inr (Or.inr (Or.inr (Or.inr (Or.inr (Or.inr (Or.inl rfl))))))))))))))))
    have e16 : ad' (.inr (11, 0, 0, 0)) = ad (.inr (11, 0, 0, 0)) := e _ (Or.inr (Or.inr (Or.inr (Or.inr (Or.inr (Or.inr (Or.inr (Or.inr (Or.inr (Or.inr (Or.inr (Or.inr (Or.inr (Or.inr (Or.inr (Or.inr (Or.inl rfl)))))))))))))))))
    have e17 : ad' (.inr (15, 0, 0, 0)) = ad (.inr (15, 0, 0, 0)) := e _ (Or.inr (Or.inr (Or.inr (Or.inr (Or.inr (Or.inr (Or.inr (Or.inr (Or.inr (Or.inr (Or.inr (Or.inr (Or.inr (Or.inr (Or.inr (Or.inr (Or.inr (Or.inl rfl))))))))))))))))))
    have e18 : ad' (.inr (19, 0, 0, 0)) = ad (.inr (19, 0, 0, 0)) := e _ (Or.inr (Or.inr (Or.inr (Or.inr (Or.inr (Or.inr (Or.inr (Or.inr (Or.inr (Or.inr (Or.inr (Or.inr (Or.inr (Or.inr (Or.inr (Or.inr (Or.inr (Or.inr (Or.inl rfl)))))))))))))))))))
    have e19 : ad' (.inr (23, 0, 0, 0)) = ad (.inr (23, 0, 0, 0)) := e _ (Or.inr (Or.inr (Or.inr (Or.inr (Or.inr (Or.inr (Or.inr (Or.inr (Or.inr (Or.inr (Or.inr (Or.inr (Or.inr (Or.inr (Or.inr (Or.inr (Or.inr (Or.inr (Or.inr (Or.inl rfl))))))))))))))))))))
    have e20 : ad' (.inr (25, 0, 0, 0)) = ad (.inr (25, 0, 0, 0)) := e _ (Or.inr (Or.inr (Or.inr (Or.inr (Or.inr (Or.inr (Or.inr (Or.inr (Or.inr (Or.inr (Or.inr (Or.inr (Or.inr (Or.inr (Or.inr (Or.inr (Or.inr (Or.inr (Or.inr (Or.inr rfl))))))))))))))))))))
    simp only [OkM] at h ⊢
    simp only [e0, e1, e2, e3, e4, e5, e6, e7, e8, e9, e10, e11, e12, e13, e14, e15, e16, e17, e18, e19, e20]
    exact h
  | 1, e, h => exact h
  | 2, e, h => exact h
  | 3, e, h => exact h
  | 4, e, h => exact h
  | 5, e, h => exact h
  | 6, e, h =>
    have e0 : ∀ x9 : Nat, ad' (.inr (7, x9, 0, 0)) = ad (.inr (7, x9, 0, 0)) := fun x9 => e _ ⟨_, rfl⟩
    simp only [OkM] at h ⊢
    simp only [e0]
    exact h
  | 7, e, h =>
    have e0 : ∀ x9 : Nat, ad' (.inr (8, a, x9, 0)) = ad (.inr (8, a, x9, 0)) := fun x9 => e _ ⟨_, rfl⟩
    simp only [OkM] at h ⊢
    simp only [e0]
    exact h
  | 8, e, h => exact h
  | 9, e, h =>
    have e0 : ∀ x9 : Nat, ad' (.inr (10, a, x9, 0)) = ad (.inr (10, a, x9, 0)) := fun x9 => e _ ⟨_, rfl⟩
    simp only [OkM] at h ⊢
    simp only [e0]
    exact h
  | 10, e, h => exact h
  | 11, e, h =>
    have e0 : ∀ x9 : Nat, ad' (.inr (12, x9, 0, 0)) = ad (.inr (12, x9, 0, 0)) := fun x9 => e _ ⟨_, rfl⟩
    simp only [OkM] at h ⊢
    simp only [e0]
    exact h
  | 12, e, h =>
    have e0 : ∀ x9 : Nat, ad' (.inr (13, a, x9, 0)) = ad (.inr (13, a, x9, 0)) := fun x9 => e _ ⟨_, rfl⟩
    simp only [OkM] at h ⊢
    simp only [e0]
    exact h
  | 13, e, h =>
    have e0 : ∀ x9 : Nat, ad' (.inr (14, a, b, x9)) = ad (.inr (14, a, b, x9)) := fun x9 => e _ ⟨_, rfl⟩
    simp only [OkM] at h ⊢
    simp only [e0]
    exact h
  | 14, e, h => exact h
  | 15, e, h =>
    have e0 : ∀ x9 : Nat, ad' (.inr (16, x9, 0, 0)) = ad (.inr (16, x9, 0, 0)) := fun x9 => e _ ⟨_, rfl⟩
    simp only [OkM] at h ⊢
    simp only [e0]
    exact h
  | 16, e, h =>
    have e0 : ∀ x9 : Nat, ad' (.inr (17, a, x9, 0)) = ad (.inr (17, a, x9, 0)) := fun x9 => e _ ⟨_, rfl⟩
    simp only [OkM] at h ⊢
    simp only [e0]
    exact h
  | 17, e, h =>
    have e0 : ∀ x9 : Nat, ad' (.inr (18, a, b, x9)) = ad (.inr (18, a, b, x9)) := fun x9 => e _ ⟨_, rfl⟩
    simp only [OkM] at h ⊢
    simp only [e0]
    exact h
  | 18, e, h => exact h
  | 19, e, h =>
    have e0 : ∀ x9 : Nat, ad' (.inr (20, x9, 0, 0)) = ad (.inr (20, x9, 0, 0)) := fun x9 => e _ ⟨_, rfl⟩
    simp only [OkM] at h ⊢
    simp only [e0]
    exact h
  | 20, e, h =>
    have e0 : ∀ x9 : Nat, ad' (.inr (21, a, x9, 0)) = ad (.inr (21, a, x9, 0)) := fun x9 => e _ ⟨_, rfl⟩
    simp only [OkM] at h ⊢
    simp only [e0]
    exact h
  | 21, e, h =>
    have e0 : ∀ x9 : Nat, ad' (.inr (22, a, b, x9)) = ad (.inr (22, a, b, x9)) := fun x9 => e _ ⟨_, rfl⟩
    simp only [OkM] at h ⊢
    simp only [e0]
    exact h
  | 22, e, h => exact h
  | 23, e, h =>
    have e0 : ∀ x9 : Nat, ad' (.inr (24, x9, 0, 0)) = ad (.inr (24, x9, 0, 0)) := fun x9 => e _ ⟨_, rfl⟩
    simp only [OkM] at h ⊢
    simp only [e0]
    exact h
  | 24, e, h => exact h
  | 25, e, h =>
    have e0 : ∀ x9 : Nat, ad' (.inr (26, x9, 0, 0)) = ad (.inr (26, x9, 0, 0)) := fun x9 => e _ ⟨_, rfl⟩
    simp only [OkM] at h ⊢
    simp only [e0]
    exact h
  | 26, e, h => exact h
  | 27, e, h => exact h
  | n + 28, e, h => exact h.elim
