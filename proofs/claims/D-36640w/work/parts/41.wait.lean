/-! THE PLAIN LAW, 11: packets that wait, on the side of the objects (printed by gen/mkspec4.py) -/
set_option maxRecDepth 100000
theorem R.wt_add {A ad : Ro → Nat} {s : Wo} {w w' : Hp} {a b g : Nat} {p : Pk} {f' : Nat → Option Nat} (h : R A ad s w) (ha : a < 3) (hb : b < 3) (ag : ∀ r, Lv s r → ad r ≠ g) (hg : okA (w' g) 0 3 (fun f => f 0 = p.src ∧ f 1 = p.dst ∧ f 2 = p.ld)) (hpks : w' (ad (c_pks a b)) = Option.some (aP 7 4 f')) (hf : ∀ k, k < s.c.nw a b → f' k = Option.some (ad (c_pk a b k))) (hfn : f' (s.c.nw a b) = Option.some g) (hsd : w' (ad (c_sd a b)) = Option.some (.inr (2, [.int (s.c.kn a b), va_rf (oS (s.c.se a b 0) (ad (c_se a b 0))), va_rf (oS (s.c.se a b 1) (ad (c_se a b 1))), va_rf (oS (s.c.se a b 2) (ad (c_se a b 2))), va_rf (oS (s.c.fl a b) (ad (c_fl a b))), .int (s.c.stT a b), .int (s.c.stS a b), .int (s.c.ck a b), .int (s.c.ckAt a b), rf (ad (c_pks a b)), .int (nI (s.c.nw a b + 1))])))
    (hw : ∀ q, q ≠ ad (c_pks a b) → q ≠ ad (c_sd a b) → q ≠ g → w' q = w q)
    (hro : ∀ a, w' a = Option.some roE → a = ad c_e) : R A (srC ad (fun q => if q = (12, a, b, (s.c.nw a b)) then .inr g else .inl q)) ((s.s_c ((s.c.s_nw (upd2 s.c.nw a b ((s.c.nw a b) + 1))).s_wt (upd3 s.c.wt a b (s.c.nw a b) p))).s_ow s.ow) w' := by
  obtain ⟨src, hsrc⟩ : ∃ z : Rq → Rq ⊕ Nat, z = fun q => if q = (12, a, b, (s.c.nw a b)) then .inr g else .inl q := ⟨_, rfl⟩
  rw [← hsrc]
  have m0 : src (12, a, b, (s.c.nw a b)) = .inr g := by
    rw [hsrc]; show (if _ = _ then _ else _) = _
    rw [if_pos rfl]
  have mn : ∀ q, q ≠ (12, a, b, (s.c.nw a b)) → src q = .inl q := by
    intro q n0
    rw [hsrc]
    show (if _ = _ then _ else _) = _
    rw [if_neg n0]
  have v0 : srC ad src (c_pk a b (s.c.nw a b)) = g := srC_n m0
  have vn : ∀ q, q ≠ (12, a, b, (s.c.nw a b)) → srC ad src (.inl q) = ad (.inl q) := fun q n0 => srC_o (mn q n0)
  refine h.genC2 ((s.c.s_nw (upd2 s.c.nw a b ((s.c.nw a b) + 1))).s_wt (upd3 s.c.wt a b (s.c.nw a b) p)) s.ow src (fun q => q = (11, a, b, 0) ∨ q = (10, a, b, 0)) ?_ ?_ ?_ ?_ ?_ ?_ ?_ hro
  · intro q hq
    exact mn q (fun z => by subst z; exact absurd (show false = true from hq) (by decide))
  · intro q q0 hl e
    by_cases n0 : q = (12, a, b, (s.c.nw a b))
    · subst n0; rw [m0] at e
      cases e
    rw [mn q n0] at e
    cases e
    obtain ⟨t, a', b', k'⟩ := q
    match t, hl, n0 with
    | 0, hl, n0 => exact hl
    | 1, hl, n0 => exact hl
    | 2, hl, n0 => exact hl
    | 3, hl, n0 => exact hl
    | 4, hl, n0 => exact hl
    | 5, hl, n0 => exact hl
    | 6, hl, n0 => exact hl
    | 7, hl, n0 => exact hl
    | 8, hl, n0 => exact hl
    | 9, hl, n0 => exact hl
    | 10, hl, n0 => exact hl
    | 11, hl, n0 => exact hl
    | 12, hl, n0 =>
      obtain ⟨h1, h2, h3⟩ := hl
      have h3 : k' < upd2 s.c.nw a b (s.c.nw a b + 1) a' b' := h3
      by_cases hx9 : a' = a ∧ b' = b
      · obtain ⟨z1, z2⟩ := hx9
        subst z1; subst z2
        rw [upd2_s] at h3
        have h4 : k' ≠ s.c.nw a' b' := fun z => n0 (by subst z; rfl)
        exact ⟨h1, h2, by show k' < s.c.nw a' b'; omega⟩
      · rw [upd2_n hx9] at h3; exact ⟨h1, h2, h3⟩
    | 13, hl, n0 => exact hl
    | 14, hl, n0 => exact hl
    | 15, hl, n0 => exact hl
    | 16, hl, n0 => exact hl
    | 17, hl, n0 => exact hl
    | 18, hl, n0 => exact hl
    | 19, hl, n0 => exact hl
    | 20, hl, n0 => exact hl
    | 21, hl, n0 => exact hl
    | 22, hl, n0 => exact hl
    | 23, hl, n0 => exact hl
    | 24, hl, n0 => exact hl
    | 25, hl, n0 => exact hl
    | 26, hl, n0 => exact hl
    | n + 27, hl, n0 => exact hl.elim
  · intro q g hl e r hr
    by_cases n0 : q = (12, a, b, (s.c.nw a b))
    · subst n0; rw [m0] at e; cases e; exact ag r hr
    rw [mn q n0] at e; cases e
  · intro q q' hl hl' e
    by_cases n0 : q = (12, a, b, (s.c.nw a b))
    · subst n0; rw [m0] at e
      by_cases p0 : q' = (12, a, b, (s.c.nw a b))
      · exact p0.symm
      rw [mn q' p0] at e
      cases e
    rw [mn q n0] at e
    by_cases p0 : q' = (12, a, b, (s.c.nw a b))
    · subst p0; rw [m0] at e; cases e
    rw [mn q' p0] at e
    exact Sum.inl.inj e
  · intro r hl hT
    exact hw _ (fun z => hT _ (h.inj _ _ hl (show Lv s (c_pks a b) from l_c_pks (s := s) ha hb) z) (Or.inl rfl)) (fun z => hT _ (h.inj _ _ hl (show Lv s (c_sd a b) from l_c_sd (s := s) ha hb) z) (Or.inr rfl)) (ag r hl)
  · intro q hl hm
    by_cases n0 : q = (12, a, b, (s.c.nw a b))
    · subst n0
      rw [show srC ad src (.inl (12, a, b, s.c.nw a b)) = g from v0]
      show okA (w' g) 0 3 (fun f => f 0 = (upd3 s.c.wt a b (s.c.nw a b) p a b (s.c.nw a b)).src ∧ f 1 = (upd3 s.c.wt a b (s.c.nw a b) p a b (s.c.nw a b)).dst ∧ f 2 = (upd3 s.c.wt a b (s.c.nw a b) p a b (s.c.nw a b)).ld)
      rw [upd3_s]; exact hg
    rcases hm with hm | hm
    · exact absurd (mn q n0) hm
    rcases hm with rfl | rfl
    · rw [show srC ad src (.inl (11, a, b, 0)) = ad (c_pks a b) from vn _ (fun z => by simp at z)]
      show okP (w' (ad (c_pks a b))) 7 4 (upd2 s.c.nw a b (s.c.nw a b + 1) a b) (fun k => srC ad src (c_pk a b k))
      rw [upd2_s]
      refine ⟨f', hpks, fun k hk => ?_⟩
      by_cases hx9 : k = s.c.nw a b
      · subst hx9; exact hfn.trans (congrArg Option.some v0.symm)
      · exact (hf k (by omega)).trans (congrArg Option.some (vn (12, a, b, k) (fun z => hx9 (by simpa using z))).symm)
    · have e0 : srC ad src (c_sd a b) = ad (c_sd a b) := vn (10, a, b, 0) (fun z => by simp at z)
      have e2 : srC ad src (c_fl a b) = ad (c_fl a b) := vn (15, a, b, 0) (fun z => by simp at z)
      have e3 : srC ad src (c_pks a b) = ad (c_pks a b) := vn (11, a, b, 0) (fun z => by simp at z)
      have f0 : srC ad src (c_se a b 0) = ad (c_se a b 0) := vn (13, a, b, 0) (fun z => by simp at z)
      have f1 : srC ad src (c_se a b 1) = ad (c_se a b 1) := vn (13, a, b, 1) (fun z => by simp at z)
      have f2 : srC ad src (c_se a b 2) = ad (c_se a b 2) := vn (13, a, b, 2) (fun z => by simp at z)
      show w' (srC ad src (c_sd a b)) = Option.some (.inr (2, [.int (s.c.kn a b), va_rf (oS (s.c.se a b 0) (srC ad src (c_se a b 0))), va_rf (oS (s.c.se a b 1) (srC ad src (c_se a b 1))), va_rf (oS (s.c.se a b 2) (srC ad src (c_se a b 2))), va_rf (oS (s.c.fl a b) (srC ad src (c_fl a b))), .int (s.c.stT a b), .int (s.c.stS a b), .int (s.c.ck a b), .int (s.c.ckAt a b), rf (srC ad src (c_pks a b)), .int (nI (upd2 s.c.nw a b (s.c.nw a b + 1) a b))]))
      rw [upd2_s, f0, f1, f2, e0, e2, e3]
      exact hsd
  · intro q x hl hm hT hx
    have n0 : q ≠ (12, a, b, (s.c.nw a b)) := fun z => by subst z; rw [m0] at hm; cases hm
    have hx : OkC s.c s.ow (srC ad src) x q := by
      refine OkC.congr2 (fun q9 hk => vn q9 (fun z => ?_)) hx
      · subst z
        obtain ⟨t, a', b', k'⟩ := q
        match t, hl, hT, hk, n0 with
        | 0, hl, hT, hk, n0 => simp [kidC] at hk
        | 1, hl, hT, hk, n0 => simp [kidC] at hk
        | 2, hl, hT, hk, n0 => simp [kidC] at hk
        | 3, hl, hT, hk, n0 => simp [kidC] at hk
        | 4, hl, hT, hk, n0 => simp [kidC] at hk
        | 5, hl, hT, hk, n0 => simp [kidC] at hk
        | 6, hl, hT, hk, n0 => simp [kidC] at hk
        | 7, hl, hT, hk, n0 => simp [kidC] at hk
        | 8, hl, hT, hk, n0 => simp [kidC] at hk
        | 9, hl, hT, hk, n0 => simp [kidC] at hk
        | 10, hl, hT, hk, n0 => simp [kidC] at hk
        | 11, hl, hT, hk, n0 =>
          obtain ⟨x9, hk⟩ := hk
          have h9 : a' = a ∧ b' = b := by
            simp at hk
            exact ⟨hk.1.symm, hk.2.1.symm⟩
          obtain ⟨z1, z2⟩ := h9
          exact hT (Or.inl (by obtain ⟨_, _, h3⟩ := hl; subst z1; subst z2; subst h3; rfl))
        | 12, hl, hT, hk, n0 => simp [kidC] at hk
        | 13, hl, hT, hk, n0 => simp [kidC] at hk
        | 14, hl, hT, hk, n0 => simp [kidC] at hk
        | 15, hl, hT, hk, n0 => simp [kidC] at hk
        | 16, hl, hT, hk, n0 => simp [kidC] at hk
        | 17, hl, hT, hk, n0 => simp [kidC] at hk
        | 18, hl, hT, hk, n0 => simp [kidC] at hk
        | 19, hl, hT, hk, n0 => simp [kidC] at hk
        | 20, hl, hT, hk, n0 => simp [kidC] at hk
        | 21, hl, hT, hk, n0 => simp [kidC] at hk
        | 22, hl, hT, hk, n0 => simp [kidC] at hk
        | 23, hl, hT, hk, n0 => simp [kidC] at hk
        | 24, hl, hT, hk, n0 => simp [kidC] at hk
        | 25, hl, hT, hk, n0 => simp [kidC] at hk
        | 26, hl, hT, hk, n0 => simp [kidC] at hk
        | n + 27, hl, hT, hk, n0 => exact hl.elim
    obtain ⟨t, a', b', k'⟩ := q
    match t, hl, hT, hx, n0 with
    | 0, hl, hT, hx, n0 => exact hx
    | 1, hl, hT, hx, n0 => exact hx
    | 2, hl, hT, hx, n0 => exact hx
    | 3, hl, hT, hx, n0 => exact hx
    | 4, hl, hT, hx, n0 => exact hx
    | 5, hl, hT, hx, n0 => exact hx
    | 6, hl, hT, hx, n0 => exact hx
    | 7, hl, hT, hx, n0 => exact hx
    | 8, hl, hT, hx, n0 => exact hx
    | 9, hl, hT, hx, n0 => exact hx
    | 10, hl, hT, hx, n0 =>
      have hx9 : ¬ (a' = a ∧ b' = b) := fun z => hT (Or.inr (by obtain ⟨_, _, h3⟩ := hl; obtain ⟨z1, z2⟩ := z; subst z1; subst z2; subst h3; rfl))
      show x = Option.some (.inr (2, [_, _, _, _, _, _, _, _, _, _, .int (nI (upd2 s.c.nw a b _ a' b'))]))
      rw [upd2_n hx9]; exact hx
    | 11, hl, hT, hx, n0 =>
      have hx9 : ¬ (a' = a ∧ b' = b) := fun z => hT (Or.inl (by obtain ⟨_, _, h3⟩ := hl; obtain ⟨z1, z2⟩ := z; subst z1; subst z2; subst h3; rfl))
      show okP x 7 4 (upd2 s.c.nw a b _ a' b') _
      rw [upd2_n hx9]; exact hx
    | 12, hl, hT, hx, n0 =>
      have hx9 : ¬ (a' = a ∧ b' = b ∧ k' = s.c.nw a b) := fun z => n0 (by obtain ⟨z1, z2, z3⟩ := z; subst z1; subst z2; subst z3; rfl)
      show okA x 0 3 (fun f => f 0 = (upd3 s.c.wt a b (s.c.nw a b) p a' b' k').src ∧ f 1 = (upd3 s.c.wt a b (s.c.nw a b) p a' b' k').dst ∧ f 2 = (upd3 s.c.wt a b (s.c.nw a b) p a' b' k').ld)
      rw [upd3_n hx9]; exact hx
    | 13, hl, hT, hx, n0 => exact hx
    | 14, hl, hT, hx, n0 => exact hx
    | 15, hl, hT, hx, n0 => exact hx
    | 16, hl, hT, hx, n0 => exact hx
    | 17, hl, hT, hx, n0 => exact hx
    | 18, hl, hT, hx, n0 => exact hx
    | 19, hl, hT, hx, n0 => exact hx
    | 20, hl, hT, hx, n0 => exact hx
    | 21, hl, hT, hx, n0 => exact hx
    | 22, hl, hT, hx, n0 => exact hx
    | 23, hl, hT, hx, n0 => exact hx
    | 24, hl, hT, hx, n0 => exact hx
    | 25, hl, hT, hx, n0 => exact hx
    | 26, hl, hT, hx, n0 => exact hx
    | n + 27, hl, hT, hx, n0 => exact hl.elim
def shW (f : Nat → Nat → Nat → Pk) (a b : Nat) : Nat → Nat → Nat → Pk := fun i j k => if i = a ∧ j = b then f i j (k + 1) else f i j k
theorem shW_s {f : Nat → Nat → Nat → Pk} {a b k : Nat} : shW f a b a b k = f a b (k + 1) := if_pos ⟨rfl, rfl⟩
theorem shW_n {f : Nat → Nat → Nat → Pk} {a b i j k : Nat} (h : ¬ (i = a ∧ j = b)) : shW f a b i j k = f i j k := if_neg h
theorem R.wt_first {A ad : Ro → Nat} {s : Wo} {w w' : Hp} {a b : Nat} {f' : Nat → Option Nat} (h : R A ad s w) (ha : a < 3) (hb : b < 3) (hpks : w' (ad (c_pks a b)) = Option.some (aP 7 4 f')) (hf : ∀ k, k < s.c.nw a b - 1 → f' k = Option.some (ad (c_pk a b (k + 1)))) (hsd : w' (ad (c_sd a b)) = Option.some (.inr (2, [.int (s.c.kn a b), va_rf (oS (s.c.se a b 0) (ad (c_se a b 0))), va_rf (oS (s.c.se a b 1) (ad (c_se a b 1))), va_rf (oS (s.c.se a b 2) (ad (c_se a b 2))), va_rf (oS (s.c.fl a b) (ad (c_fl a b))), .int (s.c.stT a b), .int (s.c.stS a b), .int (s.c.ck a b), .int (s.c.ckAt a b), rf (ad (c_pks a b)), .int (nI (s.c.nw a b - 1))])))
    (hw : ∀ q, q ≠ ad (c_pks a b) → q ≠ ad (c_sd a b) → w' q = w q)
    (hro : ∀ a, w' a = Option.some roE → a = ad c_e) : R A (srC ad (fun q => if q.1 = 12 ∧ q.2.1 = a ∧ q.2.2.1 = b then .inl (q.1, q.2.1, q.2.2.1, q.2.2.2 + 1) else .inl q)) ((s.s_c ((s.c.s_nw (upd2 s.c.nw a b (s.c.nw a b - 1))).s_wt (shW s.c.wt a b))).s_ow s.ow) w' := by
  obtain ⟨src, hsrc⟩ : ∃ z : Rq → Rq ⊕ Nat, z = fun q => if q.1 = 12 ∧ q.2.1 = a ∧ q.2.2.1 = b then .inl (q.1, q.2.1, q.2.2.1, q.2.2.2 + 1) else .inl q := ⟨_, rfl⟩
  rw [← hsrc]
  have my : ∀ q : Rq, q.1 = 12 ∧ q.2.1 = a ∧ q.2.2.1 = b → src q = .inl (q.1, q.2.1, q.2.2.1, q.2.2.2 + 1) := fun q hq => by rw [hsrc]; exact if_pos hq
  have mn : ∀ q : Rq, ¬ (q.1 = 12 ∧ q.2.1 = a ∧ q.2.2.1 = b) → src q = .inl q := fun q hq => by rw [hsrc]; exact if_neg hq
  have vy : ∀ q : Rq, q.1 = 12 ∧ q.2.1 = a ∧ q.2.2.1 = b → srC ad src (.inl q) = ad (.inl (q.1, q.2.1, q.2.2.1, q.2.2.2 + 1)) := fun q hq => srC_o (my q hq)
  have vn : ∀ q : Rq, ¬ (q.1 = 12 ∧ q.2.1 = a ∧ q.2.2.1 = b) → srC ad src (.inl q) = ad (.inl q) := fun q hq => srC_o (mn q hq)
  have lvs : ∀ q : Rq, LvC ((s.c.s_nw (upd2 s.c.nw a b (s.c.nw a b - 1))).s_wt (shW s.c.wt a b)) s.ow q → q.1 = 12 ∧ q.2.1 = a ∧ q.2.2.1 = b → LvC s.c s.ow (q.1, q.2.1, q.2.2.1, q.2.2.2 + 1) := by
    rintro ⟨t, a', b', k'⟩ hl ⟨z1, z2, z3⟩
    have z1 : t = 12 := z1
    have z2 : a' = a := z2
    have z3 : b' = b := z3
    subst z1; subst z2; subst z3
    obtain ⟨h1, h2, h3⟩ := hl
    have h3 : k' < upd2 s.c.nw a' b' (s.c.nw a' b' - 1) a' b' := h3
    rw [upd2_s] at h3
    exact ⟨h1, h2, by show k' + 1 < s.c.nw a' b'; omega⟩
  refine h.genC2 ((s.c.s_nw (upd2 s.c.nw a b (s.c.nw a b - 1))).s_wt (shW s.c.wt a b)) s.ow src (fun q => q = (11, a, b, 0) ∨ q = (10, a, b, 0)) ?_ ?_ ?_ ?_ ?_ ?_ ?_ hro
  · intro q hq
    refine mn q (fun z => ?_)
    obtain ⟨t, q2⟩ := q
    have z1 : t = 12 := z.1
    subst z1; exact absurd (show false = true from hq) (by decide)
  · intro q q0 hl e
    by_cases n0 : q.1 = 12 ∧ q.2.1 = a ∧ q.2.2.1 = b
    · rw [my q n0] at e; cases e; exact lvs q hl n0
    rw [mn q n0] at e; cases e
    obtain ⟨t, a', b', k'⟩ := q
    match t, hl, n0 with
    | 0, hl, n0 => exact hl
    | 1, hl, n0 => exact hl
    | 2, hl, n0 => exact hl
    | 3, hl, n0 => exact hl
    | 4, hl, n0 => exact hl
    | 5, hl, n0 => exact hl
    | 6, hl, n0 => exact hl
    | 7, hl, n0 => exact hl
    | 8, hl, n0 => exact hl
    | 9, hl, n0 => exact hl
    | 10, hl, n0 => exact hl
    | 11, hl, n0 => exact hl
    | 12, hl, n0 =>
      have hx9 : ¬ (a' = a ∧ b' = b) := fun z => n0 ⟨rfl, z.1, z.2⟩
      obtain ⟨h1, h2, h3⟩ := hl
      have h3 : k' < upd2 s.c.nw a b (s.c.nw a b - 1) a' b' := h3
      rw [upd2_n hx9] at h3; exact ⟨h1, h2, h3⟩
    | 13, hl, n0 => exact hl
    | 14, hl, n0 => exact hl
    | 15, hl, n0 => exact hl
    | 16, hl, n0 => exact hl
    | 17, hl, n0 => exact hl
    | 18, hl, n0 => exact hl
    | 19, hl, n0 => exact hl
    | 20, hl, n0 => exact hl
    | 21, hl, n0 => exact hl
    | 22, hl, n0 => exact hl
    | 23, hl, n0 => exact hl
    | 24, hl, n0 => exact hl
    | 25, hl, n0 => exact hl
    | 26, hl, n0 => exact hl
    | n + 27, hl, n0 => exact hl.elim
  · intro q g hl e r hr
    by_cases n0 : q.1 = 12 ∧ q.2.1 = a ∧ q.2.2.1 = b
    · rw [my q n0] at e; cases e
    · rw [mn q n0] at e; cases e
  · intro q q' hl hl' e
    obtain ⟨t, a1, b1, k1⟩ := q
    obtain ⟨t', a2, b2, k2⟩ := q'
    by_cases n0 : ((t, a1, b1, k1) : Rq).1 = 12 ∧ ((t, a1, b1, k1) : Rq).2.1 = a ∧ ((t, a1, b1, k1) : Rq).2.2.1 = b <;> by_cases n1 : ((t', a2, b2, k2) : Rq).1 = 12 ∧ ((t', a2, b2, k2) : Rq).2.1 = a ∧ ((t', a2, b2, k2) : Rq).2.2.1 = b
    · rw [my _ n0, my _ n1] at e; have e := Sum.inl.inj e; simp only [Prod.mk.injEq] at e n0 n1 ⊢; omega
    · rw [my _ n0, mn _ n1] at e; have e := Sum.inl.inj e; simp only [Prod.mk.injEq] at e n0 n1 ⊢; omega
    · rw [mn _ n0, my _ n1] at e; have e := Sum.inl.inj e; simp only [Prod.mk.injEq] at e n0 n1 ⊢; omega
    · rw [mn _ n0, mn _ n1] at e; have e := Sum.inl.inj e; simp only [Prod.mk.injEq] at e n0 n1 ⊢; omega
  · intro r hl hT
    exact hw _ (fun z => hT _ (h.inj _ _ hl (show Lv s (c_pks a b) from l_c_pks (s := s) ha hb) z) (Or.inl rfl)) (fun z => hT _ (h.inj _ _ hl (show Lv s (c_sd a b) from l_c_sd (s := s) ha hb) z) (Or.inr rfl))
  · intro q hl hm
    by_cases n0 : q.1 = 12 ∧ q.2.1 = a ∧ q.2.2.1 = b
    · have l0 := lvs q hl n0
      rw [vy q n0, hw _ (fun z => by have z1 := congrArg Prod.fst (Sum.inl.inj (h.inj _ _ (show Lv s (.inl _) from l0) (show Lv s (c_pks a b) from l_c_pks (s := s) ha hb) z)); have z2 := n0.1; simp only [] at z1; rw [z2] at z1; cases z1) (fun z => by have z1 := congrArg Prod.fst (Sum.inl.inj (h.inj _ _ (show Lv s (.inl _) from l0) (show Lv s (c_sd a b) from l_c_sd (s := s) ha hb) z)); have z2 := n0.1; simp only [] at z1; rw [z2] at z1; cases z1)]
      have ok := h.ok _ (show Lv s (.inl _) from l0)
      obtain ⟨t, a', b', k'⟩ := q
      have z1 : t = 12 := n0.1
      subst z1
      obtain ⟨_, z2, z3⟩ := n0
      have z2 : a' = a := z2
      have z3 : b' = b := z3
      subst z2; subst z3
      show okA (w (ad (c_pk a' b' (k' + 1)))) 0 3 (fun f => f 0 = (shW s.c.wt a' b' a' b' k').src ∧ f 1 = (shW s.c.wt a' b' a' b' k').dst ∧ f 2 = (shW s.c.wt a' b' a' b' k').ld)
      rw [shW_s]; exact ok
    rcases hm with hm | hm
    · exact absurd (mn q n0) hm
    rcases hm with rfl | rfl
    · rw [show srC ad src (.inl (11, a, b, 0)) = ad (c_pks a b) from vn _ (fun z => by have z1 := z.1; cases z1)]
      show okP (w' (ad (c_pks a b))) 7 4 (upd2 s.c.nw a b (s.c.nw a b - 1) a b) (fun k => srC ad src (c_pk a b k))
      rw [upd2_s]
      exact ⟨f', hpks, fun k hk => (hf k hk).trans (congrArg Option.some (vy (12, a, b, k) ⟨rfl, rfl, rfl⟩).symm)⟩
    · have e0 : srC ad src (c_sd a b) = ad (c_sd a b) := vn (10, a, b, 0) (fun z => by have z1 := z.1; cases z1)
      have e2 : srC ad src (c_fl a b) = ad (c_fl a b) := vn (15, a, b, 0) (fun z => by have z1 := z.1; cases z1)
      have e3 : srC ad src (c_pks a b) = ad (c_pks a b) := vn (11, a, b, 0) (fun z => by have z1 := z.1; cases z1)
      have f0 : srC ad src (c_se a b 0) = ad (c_se a b 0) := vn (13, a, b, 0) (fun z => by have z1 := z.1; cases z1)
      have f1 : srC ad src (c_se a b 1) = ad (c_se a b 1) := vn (13, a, b, 1) (fun z => by have z1 := z.1; cases z1)
      have f2 : srC ad src (c_se a b 2) = ad (c_se a b 2) := vn (13, a, b, 2) (fun z => by have z1 := z.1; cases z1)
      show w' (srC ad src (c_sd a b)) = Option.some (.inr (2, [.int (s.c.kn a b), va_rf (oS (s.c.se a b 0) (srC ad src (c_se a b 0))), va_rf (oS (s.c.se a b 1) (srC ad src (c_se a b 1))), va_rf (oS (s.c.se a b 2) (srC ad src (c_se a b 2))), va_rf (oS (s.c.fl a b) (srC ad src (c_fl a b))), .int (s.c.stT a b), .int (s.c.stS a b), .int (s.c.ck a b), .int (s.c.ckAt a b), rf (srC ad src (c_pks a b)), .int (nI (upd2 s.c.nw a b (s.c.nw a b - 1) a b))]))
      rw [upd2_s, f0, f1, f2, e0, e2, e3]
      exact hsd
  · intro q x hl hm hT hx
    have n0 : ¬ (q.1 = 12 ∧ q.2.1 = a ∧ q.2.2.1 = b) := fun z => by
      rw [my q z] at hm; obtain ⟨t, a', b', k'⟩ := q; have e := Sum.inl.inj hm; simp only [Prod.mk.injEq] at e; omega
    have hx : OkC s.c s.ow (srC ad src) x q := by
      refine OkC.congr2 (fun q9 hk => vn q9 (fun z => ?_)) hx
      obtain ⟨t, a', b', k'⟩ := q
      match t, hl, hT, hk, n0 with
      | 0, hl, hT, hk, n0 => rcases hk with rfl | rfl | rfl | rfl | rfl | rfl | rfl <;> (have z1 := z.1; cases z1)
      | 1, hl, hT, hk, n0 => exact hk.elim
      | 2, hl, hT, hk, n0 => exact hk.elim
      | 3, hl, hT, hk, n0 => rcases hk with ⟨x9, rfl⟩ <;> (have z1 := z.1; cases z1)
      | 4, hl, hT, hk, n0 => rcases hk with rfl | rfl | rfl <;> (have z1 := z.1; cases z1)
      | 5, hl, hT, hk, n0 => exact hk.elim
      | 6, hl, hT, hk, n0 => exact hk.elim
      | 7, hl, hT, hk, n0 => exact hk.elim
      | 8, hl, hT, hk, n0 => rcases hk with ⟨x9, rfl⟩ <;> (have z1 := z.1; cases z1)
      | 9, hl, hT, hk, n0 => rcases hk with ⟨x9, rfl⟩ <;> (have z1 := z.1; cases z1)
      | 10, hl, hT, hk, n0 => rcases hk with rfl | rfl | rfl | rfl | rfl <;> (have z1 := z.1; cases z1)
      | 11, hl, hT, hk, n0 =>
        obtain ⟨x9, hk⟩ := hk
        subst hk
        obtain ⟨_, z1, z2⟩ := z
        have z1 : a' = a := z1
        have z2 : b' = b := z2
        exact hT (Or.inl (by obtain ⟨_, _, h3⟩ := hl; subst z1; subst z2; subst h3; rfl))
      | 12, hl, hT, hk, n0 => exact hk.elim
      | 13, hl, hT, hk, n0 => rcases hk with rfl <;> (have z1 := z.1; cases z1)
      | 14, hl, hT, hk, n0 => exact hk.elim
      | 15, hl, hT, hk, n0 => exact hk.elim
      | 16, hl, hT, hk, n0 => rcases hk with rfl | rfl <;> (have z1 := z.1; cases z1)
      | 17, hl, hT, hk, n0 => rcases hk with ⟨x9, rfl⟩ <;> (have z1 := z.1; cases z1)
      | 18, hl, hT, hk, n0 => rcases hk with rfl <;> (have z1 := z.1; cases z1)
      | 19, hl, hT, hk, n0 => exact hk.elim
      | 20, hl, hT, hk, n0 => rcases hk with rfl | rfl <;> (have z1 := z.1; cases z1)
      | 21, hl, hT, hk, n0 => rcases hk with ⟨x9, rfl⟩ <;> (have z1 := z.1; cases z1)
      | 22, hl, hT, hk, n0 => rcases hk with rfl | rfl <;> (have z1 := z.1; cases z1)
      | 23, hl, hT, hk, n0 => rcases hk with ⟨x9, rfl⟩ <;> (have z1 := z.1; cases z1)
      | 24, hl, hT, hk, n0 => exact hk.elim
      | 25, hl, hT, hk, n0 => exact hk.elim
      | 26, hl, hT, hk, n0 => exact hk.elim
      | n + 27, hl, hT, hk, n0 => exact hl.elim
    obtain ⟨t, a', b', k'⟩ := q
    match t, hl, hT, hx, n0 with
    | 0, hl, hT, hx, n0 => exact hx
    | 1, hl, hT, hx, n0 => exact hx
    | 2, hl, hT, hx, n0 => exact hx
    | 3, hl, hT, hx, n0 => exact hx
    | 4, hl, hT, hx, n0 => exact hx
    | 5, hl, hT, hx, n0 => exact hx
    | 6, hl, hT, hx, n0 => exact hx
    | 7, hl, hT, hx, n0 => exact hx
    | 8, hl, hT, hx, n0 => exact hx
    | 9, hl, hT, hx, n0 => exact hx
    | 10, hl, hT, hx, n0 =>
      have hx9 : ¬ (a' = a ∧ b' = b) := fun z => hT (Or.inr (by obtain ⟨_, _, h3⟩ := hl; obtain ⟨z1, z2⟩ := z; subst z1; subst z2; subst h3; rfl))
      show x = Option.some (.inr (2, [_, _, _, _, _, _, _, _, _, _, .int (nI (upd2 s.c.nw a b _ a' b'))]))
      rw [upd2_n hx9]; exact hx
    | 11, hl, hT, hx, n0 =>
      have hx9 : ¬ (a' = a ∧ b' = b) := fun z => hT (Or.inl (by obtain ⟨_, _, h3⟩ := hl; obtain ⟨z1, z2⟩ := z; subst z1; subst z2; subst h3; rfl))
      show okP x 7 4 (upd2 s.c.nw a b _ a' b') _
      rw [upd2_n hx9]; exact hx
    | 12, hl, hT, hx, n0 =>
      have hx9 : ¬ (a' = a ∧ b' = b) := fun z => n0 ⟨rfl, z.1, z.2⟩
      show okA x 0 3 (fun f => f 0 = (shW s.c.wt a b a' b' k').src ∧ f 1 = (shW s.c.wt a b a' b' k').dst ∧ f 2 = (shW s.c.wt a b a' b' k').ld)
      rw [shW_n hx9]; exact hx
    | 13, hl, hT, hx, n0 => exact hx
    | 14, hl, hT, hx, n0 => exact hx
    | 15, hl, hT, hx, n0 => exact hx
    | 16, hl, hT, hx, n0 => exact hx
    | 17, hl, hT, hx, n0 => exact hx
    | 18, hl, hT, hx, n0 => exact hx
    | 19, hl, hT, hx, n0 => exact hx
    | 20, hl, hT, hx, n0 => exact hx
    | 21, hl, hT, hx, n0 => exact hx
    | 22, hl, hT, hx, n0 => exact hx
    | 23, hl, hT, hx, n0 => exact hx
    | 24, hl, hT, hx, n0 => exact hx
    | 25, hl, hT, hx, n0 => exact hx
    | 26, hl, hT, hx, n0 => exact hx
    | n + 27, hl, hT, hx, n0 => exact hl.elim
