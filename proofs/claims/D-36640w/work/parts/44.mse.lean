/-! THE PLAIN LAW, 14: sessions on the side of the plain tables (printed by gen/mkspec8.py) -/
set_option maxRecDepth 100000
theorem R.ms_next {A ad : Ro → Nat} {s : Wo} {w w' : Hp} {a b : Nat} {se' : Nat → Nat → Nat → Option Ses} {fs ft : Nat → Option Nat} {gS gN : Nat} (h : R A ad s w) (ha : a < 3) (hb : b < 3) (aS : ∀ r, Lv s r → ad r ≠ gS) (aN : ∀ r, Lv s r → ad r ≠ gN) (hne : gS ≠ gN) (hS : okA (w' gS) 0 9 (fun f => (se' a b 2 = Option.none → f 0 = 0) ∧ ∀ z, se' a b 2 = Option.some z → okSes z f)) (hN : okA (w' gN) 1 40 (fun f => ∀ z, se' a b 2 = Option.some z → f = z.seen)) (h0 : se' a b 0 = s.m.se a b 0) (h1 : se' a b 1 = s.m.se a b 1) (hoth : ∀ i j k, ¬ (i = a ∧ j = b) → se' i j k = s.m.se i j k) (hs2 : w' (ad (m_se2 a b)) = Option.some (aP 7 3 fs)) (ht2 : w' (ad (m_tk2 a b)) = Option.some (aP 10 3 ft)) (fs0 : fs 0 = Option.some (ad (m_se3 a b 0))) (ft0 : ft 0 = Option.some (ad (m_tk3 a b 0))) (fs1 : fs 1 = Option.some (ad (m_se3 a b 1))) (ft1 : ft 1 = Option.some (ad (m_tk3 a b 1))) (fs2 : fs 2 = Option.some gS) (ft2 : ft 2 = Option.some gN)
    (hw : ∀ q, q ≠ ad (m_se2 a b) → q ≠ ad (m_tk2 a b) → q ≠ gS → q ≠ gN → w' q = w q)
    (hro : ∀ a, w' a = Option.some roE → a = ad c_e) : R A (srM ad (fun q => if q = (18, a, b, 2) then .inr gS else if q = (22, a, b, 2) then .inr gN else .inl q)) ((((s.s_m (s.m.s_se se')).s_th s.th).s_sm s.sm).s_o s.o) w' := by
  obtain ⟨src, hsrc⟩ : ∃ z : Rq → Rq ⊕ Nat, z = fun q => if q = (18, a, b, 2) then .inr gS else if q = (22, a, b, 2) then .inr gN else .inl q := ⟨_, rfl⟩
  rw [← hsrc]
  have m0 : src (18, a, b, 2) = .inr gS := by
    rw [hsrc]; show (if _ = _ then _ else _) = _
    rw [if_pos rfl]
  have m1 : src (22, a, b, 2) = .inr gN := by
    rw [hsrc]; show (if _ = _ then _ else _) = _
    rw [if_neg (fun z => by simp at z)]
    rw [if_pos rfl]
  have mn : ∀ q, q ≠ (18, a, b, 2) → q ≠ (22, a, b, 2) → src q = .inl q := by
    intro q n0 n1
    rw [hsrc]
    show (if _ = _ then _ else _) = _
    rw [if_neg n0, if_neg n1]
  have v0 : srM ad src (m_se3 a b 2) = gS := srM_n m0
  have v1 : srM ad src (m_tk3 a b 2) = gN := srM_n m1
  have vn : ∀ q, q ≠ (18, a, b, 2) → q ≠ (22, a, b, 2) → srM ad src (.inr q) = ad (.inr q) := fun q n0 n1 => srM_o (mn q n0 n1)
  refine h.genM2 (s.m.s_se se') s.th s.sm s.o src (fun q => q = (17, a, b, 0) ∨ q = (21, a, b, 0)) ?_ ?_ ?_ ?_ ?_ ?_ ?_ hro
  · intro q hq
    exact mn q (fun z => by subst z; exact absurd (show false = true from hq) (by decide)) (fun z => by subst z; exact absurd (show false = true from hq) (by decide))
  · intro q q0 hl e
    by_cases n0 : q = (18, a, b, 2)
    · subst n0; rw [m0] at e
      cases e
    by_cases n1 : q = (22, a, b, 2)
    · subst n1; rw [m1] at e
      cases e
    rw [mn q n0 n1] at e
    cases e
    obtain ⟨t, a', b', k'⟩ := q
    match t, hl, n0, n1 with
    | 0, hl, n0, n1 => exact hl
    | 1, hl, n0, n1 => exact hl
    | 2, hl, n0, n1 => exact hl
    | 3, hl, n0, n1 => exact hl
    | 4, hl, n0, n1 => exact hl
    | 5, hl, n0, n1 => exact hl
    | 6, hl, n0, n1 => exact hl
    | 7, hl, n0, n1 => exact hl
    | 8, hl, n0, n1 => exact hl
    | 9, hl, n0, n1 => exact hl
    | 10, hl, n0, n1 => exact hl
    | 11, hl, n0, n1 => exact hl
    | 12, hl, n0, n1 => exact hl
    | 13, hl, n0, n1 => exact hl
    | 14, hl, n0, n1 => exact hl
    | 15, hl, n0, n1 => exact hl
    | 16, hl, n0, n1 => exact hl
    | 17, hl, n0, n1 => exact hl
    | 18, hl, n0, n1 => exact hl
    | 19, hl, n0, n1 => exact hl
    | 20, hl, n0, n1 => exact hl
    | 21, hl, n0, n1 => exact hl
    | 22, hl, n0, n1 => exact hl
    | 23, hl, n0, n1 => exact hl
    | 24, hl, n0, n1 => exact hl
    | 25, hl, n0, n1 => exact hl
    | 26, hl, n0, n1 => exact hl
    | 27, hl, n0, n1 => exact hl
    | n + 28, hl, n0, n1 => exact hl.elim
  · intro q g hl e r hr
    by_cases n0 : q = (18, a, b, 2)
    · subst n0; rw [m0] at e; cases e; exact aS r hr
    by_cases n1 : q = (22, a, b, 2)
    · subst n1; rw [m1] at e; cases e; exact aN r hr
    rw [mn q n0 n1] at e; cases e
  · intro q q' hl hl' e
    by_cases n0 : q = (18, a, b, 2)
    · subst n0; rw [m0] at e
      by_cases p0 : q' = (18, a, b, 2)
      · exact p0.symm
      by_cases p1 : q' = (22, a, b, 2)
      · subst p1; rw [m1] at e; first | exact absurd (Sum.inr.inj e) hne | exact absurd (Sum.inr.inj e).symm hne
      rw [mn q' p0 p1] at e
      cases e
    by_cases n1 : q = (22, a, b, 2)
    · subst n1; rw [m1] at e
      by_cases p0 : q' = (18, a, b, 2)
      · subst p0; rw [m0] at e; first | exact absurd (Sum.inr.inj e) hne | exact absurd (Sum.inr.inj e).symm hne
      by_cases p1 : q' = (22, a, b, 2)
      · exact p1.symm
      rw [mn q' p0 p1] at e
      cases e
    rw [mn q n0 n1] at e
    by_cases p0 : q' = (18, a, b, 2)
    · subst p0; rw [m0] at e; cases e
    by_cases p1 : q' = (22, a, b, 2)
    · subst p1; rw [m1] at e; cases e
    rw [mn q' p0 p1] at e
    exact Sum.inl.inj e
  · intro r hl hT
    exact hw _ (fun z => hT _ (h.inj _ _ hl (show Lv s (m_se2 a b) from l_m_se2 (s := s) ha hb) z) (Or.inl rfl)) (fun z => hT _ (h.inj _ _ hl (show Lv s (m_tk2 a b) from l_m_tk2 (s := s) ha hb) z) (Or.inr rfl)) (aS r hl) (aN r hl)
  · intro q hl hm
    by_cases n0 : q = (18, a, b, 2)
    · subst n0
      show okA (w' (srM ad src (m_se3 a b 2))) 0 9 (fun f => (se' a b 2 = Option.none → f 0 = 0) ∧ ∀ z, se' a b 2 = Option.some z → okSes z f)
      rw [v0]; exact hS
    by_cases n1 : q = (22, a, b, 2)
    · subst n1
      show okA (w' (srM ad src (m_tk3 a b 2))) 1 40 (fun f => ∀ z, se' a b 2 = Option.some z → f = z.seen)
      rw [v1]; exact hN
    rcases hm with hm | hm
    · exact absurd (mn q n0 n1) hm
    rcases hm with rfl | rfl
    · rw [show srM ad src (m_se2 a b) = ad (m_se2 a b) from vn (17, a, b, 0) (fun z => by simp at z) (fun z => by simp at z)]
      show okP (w' (ad (m_se2 a b))) 7 3 3 (fun k => srM ad src (m_se3 a b k))
      refine ⟨fs, hs2, fun k hk => ?_⟩
      have hk9 : k = 0 ∨ k = 1 ∨ k = 2 := by omega
      rcases hk9 with z | z | z <;> subst z
      · exact fs0.trans (congrArg Option.some (vn (18, a, b, 0) (fun z => by simp at z) (fun z => by simp at z)).symm)
      · exact fs1.trans (congrArg Option.some (vn (18, a, b, 1) (fun z => by simp at z) (fun z => by simp at z)).symm)
      · exact fs2.trans (congrArg Option.some v0.symm)
    · rw [show srM ad src (m_tk2 a b) = ad (m_tk2 a b) from vn (21, a, b, 0) (fun z => by simp at z) (fun z => by simp at z)]
      show okP (w' (ad (m_tk2 a b))) 10 3 3 (fun k => srM ad src (m_tk3 a b k))
      refine ⟨ft, ht2, fun k hk => ?_⟩
      have hk9 : k = 0 ∨ k = 1 ∨ k = 2 := by omega
      rcases hk9 with z | z | z <;> subst z
      · exact ft0.trans (congrArg Option.some (vn (22, a, b, 0) (fun z => by simp at z) (fun z => by simp at z)).symm)
      · exact ft1.trans (congrArg Option.some (vn (22, a, b, 1) (fun z => by simp at z) (fun z => by simp at z)).symm)
      · exact ft2.trans (congrArg Option.some v1.symm)
  · intro q x hl hm hT hx
    have n0 : q ≠ (18, a, b, 2) := fun z => by subst z; rw [m0] at hm; cases hm
    have n1 : q ≠ (22, a, b, 2) := fun z => by subst z; rw [m1] at hm; cases hm
    have hx : OkM s.m s.th s.sm s.o (srM ad src) x q := by
      refine OkM.congr2 (fun q9 hk => vn q9 (fun z => ?_) (fun z => ?_)) hx
      · subst z
        obtain ⟨t, a', b', k'⟩ := q
        match t, hl, hT, hk, n0, n1 with
        | 0, hl, hT, hk, n0, n1 => simp [kidM] at hk
        | 1, hl, hT, hk, n0, n1 => simp [kidM] at hk
        | 2, hl, hT, hk, n0, n1 => simp [kidM] at hk
        | 3, hl, hT, hk, n0, n1 => simp [kidM] at hk
        | 4, hl, hT, hk, n0, n1 => simp [kidM] at hk
        | 5, hl, hT, hk, n0, n1 => simp [kidM] at hk
        | 6, hl, hT, hk, n0, n1 => simp [kidM] at hk
        | 7, hl, hT, hk, n0, n1 => simp [kidM] at hk
        | 8, hl, hT, hk, n0, n1 => simp [kidM] at hk
        | 9, hl, hT, hk, n0, n1 => simp [kidM] at hk
        | 10, hl, hT, hk, n0, n1 => simp [kidM] at hk
        | 11, hl, hT, hk, n0, n1 => simp [kidM] at hk
        | 12, hl, hT, hk, n0, n1 => simp [kidM] at hk
        | 13, hl, hT, hk, n0, n1 => simp [kidM] at hk
        | 14, hl, hT, hk, n0, n1 => simp [kidM] at hk
        | 15, hl, hT, hk, n0, n1 => simp [kidM] at hk
        | 16, hl, hT, hk, n0, n1 => simp [kidM] at hk
        | 17, hl, hT, hk, n0, n1 =>
          obtain ⟨x9, hk⟩ := hk
          have h9 : a' = a ∧ b' = b := by
            simp at hk
            exact ⟨hk.1.symm, hk.2.1.symm⟩
          obtain ⟨z1, z2⟩ := h9
          exact hT (Or.inl (by obtain ⟨_, _, h3⟩ := hl; have h3 : k' = 0 := h3; subst z1; subst z2; subst h3; rfl))
        | 18, hl, hT, hk, n0, n1 => simp [kidM] at hk
        | 19, hl, hT, hk, n0, n1 => simp [kidM] at hk
        | 20, hl, hT, hk, n0, n1 => simp [kidM] at hk
        | 21, hl, hT, hk, n0, n1 => simp [kidM] at hk
        | 22, hl, hT, hk, n0, n1 => simp [kidM] at hk
        | 23, hl, hT, hk, n0, n1 => simp [kidM] at hk
        | 24, hl, hT, hk, n0, n1 => simp [kidM] at hk
        | 25, hl, hT, hk, n0, n1 => simp [kidM] at hk
        | 26, hl, hT, hk, n0, n1 => simp [kidM] at hk
        | 27, hl, hT, hk, n0, n1 => simp [kidM] at hk
        | n + 28, hl, hT, hk, n0, n1 => exact hl.elim
      · subst z
        obtain ⟨t, a', b', k'⟩ := q
        match t, hl, hT, hk, n0, n1 with
        | 0, hl, hT, hk, n0, n1 => simp [kidM] at hk
        | 1, hl, hT, hk, n0, n1 => simp [kidM] at hk
        | 2, hl, hT, hk, n0, n1 => simp [kidM] at hk
        | 3, hl, hT, hk, n0, n1 => simp [kidM] at hk
        | 4, hl, hT, hk, n0, n1 => simp [kidM] at hk
        | 5, hl, hT, hk, n0, n1 => simp [kidM] at hk
        | 6, hl, hT, hk, n0, n1 => simp [kidM] at hk
        | 7, hl, hT, hk, n0, n1 => simp [kidM] at hk
        | 8, hl, hT, hk, n0, n1 => simp [kidM] at hk
        | 9, hl, hT, hk, n0, n1 => simp [kidM] at hk
        | 10, hl, hT, hk, n0, n1 => simp [kidM] at hk
        | 11, hl, hT, hk, n0, n1 => simp [kidM] at hk
        | 12, hl, hT, hk, n0, n1 => simp [kidM] at hk
        | 13, hl, hT, hk, n0, n1 => simp [kidM] at hk
        | 14, hl, hT, hk, n0, n1 => simp [kidM] at hk
        | 15, hl, hT, hk, n0, n1 => simp [kidM] at hk
        | 16, hl, hT, hk, n0, n1 => simp [kidM] at hk
        | 17, hl, hT, hk, n0, n1 => simp [kidM] at hk
        | 18, hl, hT, hk, n0, n1 => simp [kidM] at hk
        | 19, hl, hT, hk, n0, n1 => simp [kidM] at hk
        | 20, hl, hT, hk, n0, n1 => simp [kidM] at hk
        | 21, hl, hT, hk, n0, n1 =>
          obtain ⟨x9, hk⟩ := hk
          have h9 : a' = a ∧ b' = b := by
            simp at hk
            exact ⟨hk.1.symm, hk.2.1.symm⟩
          obtain ⟨z1, z2⟩ := h9
          exact hT (Or.inr (by obtain ⟨_, _, h3⟩ := hl; have h3 : k' = 0 := h3; subst z1; subst z2; subst h3; rfl))
        | 22, hl, hT, hk, n0, n1 => simp [kidM] at hk
        | 23, hl, hT, hk, n0, n1 => simp [kidM] at hk
        | 24, hl, hT, hk, n0, n1 => simp [kidM] at hk
        | 25, hl, hT, hk, n0, n1 => simp [kidM] at hk
        | 26, hl, hT, hk, n0, n1 => simp [kidM] at hk
        | 27, hl, hT, hk, n0, n1 => simp [kidM] at hk
        | n + 28, hl, hT, hk, n0, n1 => exact hl.elim
    obtain ⟨t, a', b', k'⟩ := q
    match t, hl, hT, hx, n0, n1 with
    | 0, hl, hT, hx, n0, n1 => exact hx
    | 1, hl, hT, hx, n0, n1 => exact hx
    | 2, hl, hT, hx, n0, n1 => exact hx
    | 3, hl, hT, hx, n0, n1 => exact hx
    | 4, hl, hT, hx, n0, n1 => exact hx
    | 5, hl, hT, hx, n0, n1 => exact hx
    | 6, hl, hT, hx, n0, n1 => exact hx
    | 7, hl, hT, hx, n0, n1 => exact hx
    | 8, hl, hT, hx, n0, n1 => exact hx
    | 9, hl, hT, hx, n0, n1 => exact hx
    | 10, hl, hT, hx, n0, n1 => exact hx
    | 11, hl, hT, hx, n0, n1 => exact hx
    | 12, hl, hT, hx, n0, n1 => exact hx
    | 13, hl, hT, hx, n0, n1 => exact hx
    | 14, hl, hT, hx, n0, n1 => exact hx
    | 15, hl, hT, hx, n0, n1 => exact hx
    | 16, hl, hT, hx, n0, n1 => exact hx
    | 17, hl, hT, hx, n0, n1 => exact hx
    | 18, hl, hT, hx, n0, n1 =>
      have kq : se' a' b' k' = s.m.se a' b' k' := by
        by_cases hab : a' = a ∧ b' = b
        · obtain ⟨z1, z2⟩ := hab
          subst z1; subst z2
          have hk8 : k' < 3 := hl.2.2
          have hk9 : k' = 0 ∨ k' = 1 ∨ k' = 2 := by omega
          rcases hk9 with z3 | z3 | z3 <;> subst z3
          · first | exact absurd rfl n0 | exact absurd rfl n1 | exact h0
          · first | exact absurd rfl n0 | exact absurd rfl n1 | exact h1
          · first | exact absurd rfl n0 | exact absurd rfl n1 | exact h2
        · exact hoth _ _ _ hab
      show okA x 0 9 (fun f => (se' a' b' k' = Option.none → f 0 = 0) ∧ ∀ z, se' a' b' k' = Option.some z → okSes z f)
      rw [kq]; exact hx
    | 19, hl, hT, hx, n0, n1 => exact hx
    | 20, hl, hT, hx, n0, n1 => exact hx
    | 21, hl, hT, hx, n0, n1 => exact hx
    | 22, hl, hT, hx, n0, n1 =>
      have kq : se' a' b' k' = s.m.se a' b' k' := by
        by_cases hab : a' = a ∧ b' = b
        · obtain ⟨z1, z2⟩ := hab
          subst z1; subst z2
          have hk8 : k' < 3 := hl.2.2
          have hk9 : k' = 0 ∨ k' = 1 ∨ k' = 2 := by omega
          rcases hk9 with z3 | z3 | z3 <;> subst z3
          · first | exact absurd rfl n0 | exact absurd rfl n1 | exact h0
          · first | exact absurd rfl n0 | exact absurd rfl n1 | exact h1
          · first | exact absurd rfl n0 | exact absurd rfl n1 | exact h2
        · exact hoth _ _ _ hab
      show okA x 1 40 (fun f => ∀ z, se' a' b' k' = Option.some z → f = z.seen)
      rw [kq]; exact hx
    | 23, hl, hT, hx, n0, n1 => exact hx
    | 24, hl, hT, hx, n0, n1 => exact hx
    | 25, hl, hT, hx, n0, n1 => exact hx
    | 26, hl, hT, hx, n0, n1 => exact hx
    | 27, hl, hT, hx, n0, n1 => exact hx
    | n + 28, hl, hT, hx, n0, n1 => exact hl.elim
theorem R.ms_reply {A ad : Ro → Nat} {s : Wo} {w w' : Hp} {a b : Nat} {se' : Nat → Nat → Nat → Option Ses} {fs ft : Nat → Option Nat} {gS gN : Nat} (h : R A ad s w) (ha : a < 3) (hb : b < 3) (aS : ∀ r, Lv s r → ad r ≠ gS) (aN : ∀ r, Lv s r → ad r ≠ gN) (hne : gS ≠ gN) (hS : okA (w' gS) 0 9 (fun f => (se' a b 1 = Option.none → f 0 = 0) ∧ ∀ z, se' a b 1 = Option.some z → okSes z f)) (hN : okA (w' gN) 1 40 (fun f => ∀ z, se' a b 1 = Option.some z → f = z.seen)) (h0 : se' a b 0 = s.m.se a b 1) (h2 : se' a b 2 = s.m.se a b 2) (hoth : ∀ i j k, ¬ (i = a ∧ j = b) → se' i j k = s.m.se i j k) (hs2 : w' (ad (m_se2 a b)) = Option.some (aP 7 3 fs)) (ht2 : w' (ad (m_tk2 a b)) = Option.some (aP 10 3 ft)) (fs0 : fs 0 = Option.some (ad (m_se3 a b 1))) (ft0 : ft 0 = Option.some (ad (m_tk3 a b 1))) (fs1 : fs 1 = Option.some gS) (ft1 : ft 1 = Option.some gN) (fs2 : fs 2 = Option.some (ad (m_se3 a b 2))) (ft2 : ft 2 = Option.some (ad (m_tk3 a b 2)))
    (hw : ∀ q, q ≠ ad (m_se2 a b) → q ≠ ad (m_tk2 a b) → q ≠ gS → q ≠ gN → w' q = w q)
    (hro : ∀ a, w' a = Option.some roE → a = ad c_e) : R A (srM ad (fun q => if q = (18, a, b, 0) then .inl (18, a, b, 1) else if q = (22, a, b, 0) then .inl (22, a, b, 1) else if q = (18, a, b, 1) then .inr gS else if q = (22, a, b, 1) then .inr gN else .inl q)) ((((s.s_m (s.m.s_se se')).s_th s.th).s_sm s.sm).s_o s.o) w' := by
  obtain ⟨src, hsrc⟩ : ∃ z : Rq → Rq ⊕ Nat, z = fun q => if q = (18, a, b, 0) then .inl (18, a, b, 1) else if q = (22, a, b, 0) then .inl (22, a, b, 1) else if q = (18, a, b, 1) then .inr gS else if q = (22, a, b, 1) then .inr gN else .inl q := ⟨_, rfl⟩
  rw [← hsrc]
  have m0 : src (18, a, b, 0) = .inl (18, a, b, 1) := by
    rw [hsrc]; show (if _ = _ then _ else _) = _
    rw [if_pos rfl]
  have m1 : src (22, a, b, 0) = .inl (22, a, b, 1) := by
    rw [hsrc]; show (if _ = _ then _ else _) = _
    rw [if_neg (fun z => by simp at z)]
    rw [if_pos rfl]
  have m2 : src (18, a, b, 1) = .inr gS := by
    rw [hsrc]; show (if _ = _ then _ else _) = _
    rw [if_neg (fun z => by simp at z)]
    rw [if_neg (fun z => by simp at z)]
    rw [if_pos rfl]
  have m3 : src (22, a, b, 1) = .inr gN := by
    rw [hsrc]; show (if _ = _ then _ else _) = _
    rw [if_neg (fun z => by simp at z)]
    rw [if_neg (fun z => by simp at z)]
    rw [if_neg (fun z => by simp at z)]
    rw [if_pos rfl]
  have mn : ∀ q, q ≠ (18, a, b, 0) → q ≠ (22, a, b, 0) → q ≠ (18, a, b, 1) → q ≠ (22, a, b, 1) → src q = .inl q := by
    intro q n0 n1 n2 n3
    rw [hsrc]
    show (if _ = _ then _ else _) = _
    rw [if_neg n0, if_neg n1, if_neg n2, if_neg n3]
  have v0 : srM ad src (m_se3 a b 0) = ad (m_se3 a b 1) := srM_o m0
  have v1 : srM ad src (m_tk3 a b 0) = ad (m_tk3 a b 1) := srM_o m1
  have v2 : srM ad src (m_se3 a b 1) = gS := srM_n m2
  have v3 : srM ad src (m_tk3 a b 1) = gN := srM_n m3
  have vn : ∀ q, q ≠ (18, a, b, 0) → q ≠ (22, a, b, 0) → q ≠ (18, a, b, 1) → q ≠ (22, a, b, 1) → srM ad src (.inr q) = ad (.inr q) := fun q n0 n1 n2 n3 => srM_o (mn q n0 n1 n2 n3)
  refine h.genM2 (s.m.s_se se') s.th s.sm s.o src (fun q => q = (17, a, b, 0) ∨ q = (21, a, b, 0)) ?_ ?_ ?_ ?_ ?_ ?_ ?_ hro
  · intro q hq
    exact mn q (fun z => by subst z; exact absurd (show false = true from hq) (by decide)) (fun z => by subst z; exact absurd (show false = true from hq) (by decide)) (fun z => by subst z; exact absurd (show false = true from hq) (by decide)) (fun z => by subst z; exact absurd (show false = true from hq) (by decide))
  · intro q q0 hl e
    by_cases n0 : q = (18, a, b, 0)
    · subst n0; rw [m0] at e
      cases e; exact ⟨ha, hb, (show 1 < 3 by decide)⟩
    by_cases n1 : q = (22, a, b, 0)
    · subst n1; rw [m1] at e
      cases e; exact ⟨ha, hb, (show 1 < 3 by decide)⟩
    by_cases n2 : q = (18, a, b, 1)
    · subst n2; rw [m2] at e
      cases e
    by_cases n3 : q = (22, a, b, 1)
    · subst n3; rw [m3] at e
      cases e
    rw [mn q n0 n1 n2 n3] at e
    cases e
    obtain ⟨t, a', b', k'⟩ := q
    match t, hl, n0, n1, n2, n3 with
    | 0, hl, n0, n1, n2, n3 => exact hl
    | 1, hl, n0, n1, n2, n3 => exact hl
    | 2, hl, n0, n1, n2, n3 => exact hl
    | 3, hl, n0, n1, n2, n3 => exact hl
    | 4, hl, n0, n1, n2, n3 => exact hl
    | 5, hl, n0, n1, n2, n3 => exact hl
    | 6, hl, n0, n1, n2, n3 => exact hl
    | 7, hl, n0, n1, n2, n3 => exact hl
    | 8, hl, n0, n1, n2, n3 => exact hl
    | 9, hl, n0, n1, n2, n3 => exact hl
    | 10, hl, n0, n1, n2, n3 => exact hl
    | 11, hl, n0, n1, n2, n3 => exact hl
    | 12, hl, n0, n1, n2, n3 => exact hl
    | 13, hl, n0, n1, n2, n3 => exact hl
    | 14, hl, n0, n1, n2, n3 => exact hl
    | 15, hl, n0, n1, n2, n3 => exact hl
    | 16, hl, n0, n1, n2, n3 => exact hl
    | 17, hl, n0, n1, n2, n3 => exact hl
    | 18, hl, n0, n1, n2, n3 => exact hl
    | 19, hl, n0, n1, n2, n3 => exact hl
    | 20, hl, n0, n1, n2, n3 => exact hl
    | 21, hl, n0, n1, n2, n3 => exact hl
    | 22, hl, n0, n1, n2, n3 => exact hl
    | 23, hl, n0, n1, n2, n3 => exact hl
    | 24, hl, n0, n1, n2, n3 => exact hl
    | 25, hl, n0, n1, n2, n3 => exact hl
    | 26, hl, n0, n1, n2, n3 => exact hl
    | 27, hl, n0, n1, n2, n3 => exact hl
    | n + 28, hl, n0, n1, n2, n3 => exact hl.elim
  · intro q g hl e r hr
    by_cases n0 : q = (18, a, b, 0)
    · subst n0; rw [m0] at e; cases e
    by_cases n1 : q = (22, a, b, 0)
    · subst n1; rw [m1] at e; cases e
    by_cases n2 : q = (18, a, b, 1)
    · subst n2; rw [m2] at e; cases e; exact aS r hr
    by_cases n3 : q = (22, a, b, 1)
    · subst n3; rw [m3] at e; cases e; exact aN r hr
    rw [mn q n0 n1 n2 n3] at e; cases e
  · intro q q' hl hl' e
    by_cases n0 : q = (18, a, b, 0)
    · subst n0; rw [m0] at e
      by_cases p0 : q' = (18, a, b, 0)
      · exact p0.symm
      by_cases p1 : q' = (22, a, b, 0)
      · subst p1; rw [m1] at e; simp at e
      by_cases p2 : q' = (18, a, b, 1)
      · subst p2; rw [m2] at e; cases e
      by_cases p3 : q' = (22, a, b, 1)
      · subst p3; rw [m3] at e; cases e
      rw [mn q' p0 p1 p2 p3] at e
      cases e; first | exact absurd rfl p0 | exact absurd rfl p1 | exact absurd rfl p2 | exact absurd rfl p3
    by_cases n1 : q = (22, a, b, 0)
    · subst n1; rw [m1] at e
      by_cases p0 : q' = (18, a, b, 0)
      · subst p0; rw [m0] at e; simp at e
      by_cases p1 : q' = (22, a, b, 0)
      · exact p1.symm
      by_cases p2 : q' = (18, a, b, 1)
      · subst p2; rw [m2] at e; cases e
      by_cases p3 : q' = (22, a, b, 1)
      · subst p3; rw [m3] at e; cases e
      rw [mn q' p0 p1 p2 p3] at e
      cases e; first | exact absurd rfl p0 | exact absurd rfl p1 | exact absurd rfl p2 | exact absurd rfl p3
    by_cases n2 : q = (18, a, b, 1)
    · subst n2; rw [m2] at e
      by_cases p0 : q' = (18, a, b, 0)
      · subst p0; rw [m0] at e; cases e
      by_cases p1 : q' = (22, a, b, 0)
      · subst p1; rw [m1] at e; cases e
      by_cases p2 : q' = (18, a, b, 1)
      · exact p2.symm
      by_cases p3 : q' = (22, a, b, 1)
      · subst p3; rw [m3] at e; first | exact absurd (Sum.inr.inj e) hne | exact absurd (Sum.inr.inj e).symm hne
      rw [mn q' p0 p1 p2 p3] at e
      cases e
    by_cases n3 : q = (22, a, b, 1)
    · subst n3; rw [m3] at e
      by_cases p0 : q' = (18, a, b, 0)
      · subst p0; rw [m0] at e; cases e
      by_cases p1 : q' = (22, a, b, 0)
      · subst p1; rw [m1] at e; cases e
      by_cases p2 : q' = (18, a, b, 1)
      · subst p2; rw [m2] at e; first | exact absurd (Sum.inr.inj e) hne | exact absurd (Sum.inr.inj e).symm hne
      by_cases p3 : q' = (22, a, b, 1)
      · exact p3.symm
      rw [mn q' p0 p1 p2 p3] at e
      cases e
    rw [mn q n0 n1 n2 n3] at e
    by_cases p0 : q' = (18, a, b, 0)
    · subst p0; rw [m0] at e; cases e; first | exact absurd rfl n0 | exact absurd rfl n1 | exact absurd rfl n2 | exact absurd rfl n3
    by_cases p1 : q' = (22, a, b, 0)
    · subst p1; rw [m1] at e; cases e; first | exact absurd rfl n0 | exact absurd rfl n1 | exact absurd rfl n2 | exact absurd rfl n3
    by_cases p2 : q' = (18, a, b, 1)
    · subst p2; rw [m2] at e; cases e
    by_cases p3 : q' = (22, a, b, 1)
    · subst p3; rw [m3] at e; cases e
    rw [mn q' p0 p1 p2 p3] at e
    exact Sum.inl.inj e
  · intro r hl hT
    exact hw _ (fun z => hT _ (h.inj _ _ hl (show Lv s (m_se2 a b) from l_m_se2 (s := s) ha hb) z) (Or.inl rfl)) (fun z => hT _ (h.inj _ _ hl (show Lv s (m_tk2 a b) from l_m_tk2 (s := s) ha hb) z) (Or.inr rfl)) (aS r hl) (aN r hl)
  · intro q hl hm
    by_cases n0 : q = (18, a, b, 0)
    · subst n0
      have hl9 : Lv s (m_se3 a b 1) := ⟨ha, hb, (show 1 < 3 by decide)⟩
      have hww : w' (ad (m_se3 a b 1)) = w (ad (m_se3 a b 1)) := hw _ (fun z => by cases h.inj _ _ hl9 (l_m_se2 (s := s) ha hb) z) (fun z => by cases h.inj _ _ hl9 (l_m_tk2 (s := s) ha hb) z) (aS _ hl9) (aN _ hl9)
      show okA (w' (srM ad src (m_se3 a b 0))) 0 9 (fun f => (se' a b 0 = Option.none → f 0 = 0) ∧ ∀ z, se' a b 0 = Option.some z → okSes z f)
      rw [v0, hww, h0]
      exact h.gm_se3 ha hb (by decide)
    by_cases n1 : q = (22, a, b, 0)
    · subst n1
      have hl9 : Lv s (m_tk3 a b 1) := ⟨ha, hb, (show 1 < 3 by decide)⟩
      have hww : w' (ad (m_tk3 a b 1)) = w (ad (m_tk3 a b 1)) := hw _ (fun z => by cases h.inj _ _ hl9 (l_m_se2 (s := s) ha hb) z) (fun z => by cases h.inj _ _ hl9 (l_m_tk2 (s := s) ha hb) z) (aS _ hl9) (aN _ hl9)
      show okA (w' (srM ad src (m_tk3 a b 0))) 1 40 (fun f => ∀ z, se' a b 0 = Option.some z → f = z.seen)
      rw [v1, hww, h0]
      exact h.gm_tk3 ha hb (by decide)
    by_cases n2 : q = (18, a, b, 1)
    · subst n2
      show okA (w' (srM ad src (m_se3 a b 1))) 0 9 (fun f => (se' a b 1 = Option.none → f 0 = 0) ∧ ∀ z, se' a b 1 = Option.some z → okSes z f)
      rw [v2]; exact hS
    by_cases n3 : q = (22, a, b, 1)
    · subst n3
      show okA (w' (srM ad src (m_tk3 a b 1))) 1 40 (fun f => ∀ z, se' a b 1 = Option.some z → f = z.seen)
      rw [v3]; exact hN
    rcases hm with hm | hm
    · exact absurd (mn q n0 n1 n2 n3) hm
    rcases hm with rfl | rfl
    · rw [show srM ad src (m_se2 a b) = ad (m_se2 a b) from vn (17, a, b, 0) (fun z => by simp at z) (fun z => by simp at z) (fun z => by simp at z) (fun z => by simp at z)]
      show okP (w' (ad (m_se2 a b))) 7 3 3 (fun k => srM ad src (m_se3 a b k))
      refine ⟨fs, hs2, fun k hk => ?_⟩
      have hk9 : k = 0 ∨ k = 1 ∨ k = 2 := by omega
      rcases hk9 with z | z | z <;> subst z
      · exact fs0.trans (congrArg Option.some v0.symm)
      · exact fs1.trans (congrArg Option.some v2.symm)
      · exact fs2.trans (congrArg Option.some (vn (18, a, b, 2) (fun z => by simp at z) (fun z => by simp at z) (fun z => by simp at z) (fun z => by simp at z)).symm)
    · rw [show srM ad src (m_tk2 a b) = ad (m_tk2 a b) from vn (21, a, b, 0) (fun z => by simp at z) (fun z => by simp at z) (fun z => by simp at z) (fun z => by simp at z)]
      show okP (w' (ad (m_tk2 a b))) 10 3 3 (fun k => srM ad src (m_tk3 a b k))
      refine ⟨ft, ht2, fun k hk => ?_⟩
      have hk9 : k = 0 ∨ k = 1 ∨ k = 2 := by omega
      rcases hk9 with z | z | z <;> subst z
      · exact ft0.trans (congrArg Option.some v1.symm)
      · exact ft1.trans (congrArg Option.some v3.symm)
      · exact ft2.trans (congrArg Option.some (vn (22, a, b, 2) (fun z => by simp at z) (fun z => by simp at z) (fun z => by simp at z) (fun z => by simp at z)).symm)
  · intro q x hl hm hT hx
    have n0 : q ≠ (18, a, b, 0) := fun z => by subst z; rw [m0] at hm; simp at hm
    have n1 : q ≠ (22, a, b, 0) := fun z => by subst z; rw [m1] at hm; simp at hm
    have n2 : q ≠ (18, a, b, 1) := fun z => by subst z; rw [m2] at hm; cases hm
    have n3 : q ≠ (22, a, b, 1) := fun z => by subst z; rw [m3] at hm; cases hm
    have hx : OkM s.m s.th s.sm s.o (srM ad src) x q := by
      refine OkM.congr2 (fun q9 hk => vn q9 (fun z => ?_) (fun z => ?_) (fun z => ?_) (fun z => ?_)) hx
      · subst z
        obtain ⟨t, a', b', k'⟩ := q
        match t, hl, hT, hk, n0, n1, n2, n3 with
        | 0, hl, hT, hk, n0, n1, n2, n3 => simp [kidM] at hk
        | 1, hl, hT, hk, n0, n1, n2, n3 => simp [kidM] at hk
        | 2, hl, hT, hk, n0, n1, n2, n3 => simp [kidM] at hk
        | 3, hl, hT, hk, n0, n1, n2, n3 => simp [kidM] at hk
        | 4, hl, hT, hk, n0, n1, n2, n3 => simp [kidM] at hk
        | 5, hl, hT, hk, n0, n1, n2, n3 => simp [kidM] at hk
        | 6, hl, hT, hk, n0, n1, n2, n3 => simp [kidM] at hk
        | 7, hl, hT, hk, n0, n1, n2, n3 => simp [kidM] at hk
        | 8, hl, hT, hk, n0, n1, n2, n3 => simp [kidM] at hk
        | 9, hl, hT, hk, n0, n1, n2, n3 => simp [kidM] at hk
        | 10, hl, hT, hk, n0, n1, n2, n3 => simp [kidM] at hk
        | 11, hl, hT, hk, n0, n1, n2, n3 => simp [kidM] at hk
        | 12, hl, hT, hk, n0, n1, n2, n3 => simp [kidM] at hk
        | 13, hl, hT, hk, n0, n1, n2, n3 => simp [kidM] at hk
        | 14, hl, hT, hk, n0, n1, n2, n3 => simp [kidM] at hk
        | 15, hl, hT, hk, n0, n1, n2, n3 => simp [kidM] at hk
        | 16, hl, hT, hk, n0, n1, n2, n3 => simp [kidM] at hk
        | 17, hl, hT, hk, n0, n1, n2, n3 =>
          obtain ⟨x9, hk⟩ := hk
          have h9 : a' = a ∧ b' = b := by
            simp at hk
            exact ⟨hk.1.symm, hk.2.1.symm⟩
          obtain ⟨z1, z2⟩ := h9
          exact hT (Or.inl (by obtain ⟨_, _, h3⟩ := hl; have h3 : k' = 0 := h3; subst z1; subst z2; subst h3; rfl))
        | 18, hl, hT, hk, n0, n1, n2, n3 => simp [kidM] at hk
        | 19, hl, hT, hk, n0, n1, n2, n3 => simp [kidM] at hk
        | 20, hl, hT, hk, n0, n1, n2, n3 => simp [kidM] at hk
        | 21, hl, hT, hk, n0, n1, n2, n3 => simp [kidM] at hk
        | 22, hl, hT, hk, n0, n1, n2, n3 => simp [kidM] at hk
        | 23, hl, hT, hk, n0, n1, n2, n3 => simp [kidM] at hk
        | 24, hl, hT, hk, n0, n1, n2, n3 => simp [kidM] at hk
        | 25, hl, hT, hk, n0, n1, n2, n3 => simp [kidM] at hk
        | 26, hl, hT, hk, n0, n1, n2, n3 => simp [kidM] at hk
        | 27, hl, hT, hk, n0, n1, n2, n3 => simp [kidM] at hk
        | n + 28, hl, hT, hk, n0, n1, n2, n3 => exact hl.elim
      · subst z
        obtain ⟨t, a', b', k'⟩ := q
        match t, hl, hT, hk, n0, n1, n2, n3 with
        | 0, hl, hT, hk, n0, n1, n2, n3 => simp [kidM] at hk
        | 1, hl, hT, hk, n0, n1, n2, n3 => simp [kidM] at hk
        | 2, hl, hT, hk, n0, n1, n2, n3 => simp [kidM] at hk
        | 3, hl, hT, hk, n0, n1, n2, n3 => simp [kidM] at hk
        | 4, hl, hT, hk, n0, n1, n2, n3 => simp [kidM] at hk
        | 5, hl, hT, hk, n0, n1, n2, n3 => simp [kidM] at hk
        | 6, hl, hT, hk, n0, n1, n2, n3 => simp [kidM] at hk
        | 7, hl, hT, hk, n0, n1, n2, n3 => simp [kidM] at hk
        | 8, hl, hT, hk, n0, n1, n2, n3 => simp [kidM] at hk
        | 9, hl, hT, hk, n0, n1, n2, n3 => simp [kidM] at hk
        | 10, hl, hT, hk, n0, n1, n2, n3 => simp [kidM] at hk
        | 11, hl, hT, hk, n0, n1, n2, n3 => simp [kidM] at hk
        | 12, hl, hT, hk, n0, n1, n2, n3 => simp [kidM] at hk
        | 13, hl, hT, hk, n0, n1, n2, n3 => simp [kidM] at hk
        | 14, hl, hT, hk, n0, n1, n2, n3 => simp [kidM] at hk
        | 15, hl, hT, hk, n0, n1, n2, n3 => simp [kidM] at hk
        | 16, hl, hT, hk, n0, n1, n2, n3 => simp [kidM] at hk
        | 17, hl, hT, hk, n0, n1, n2, n3 => simp [kidM] at hk
        | 18, hl, hT, hk, n0, n1, n2, n3 => simp [kidM] at hk
        | 19, hl, hT, hk, n0, n1, n2, n3 => simp [kidM] at hk
        | 20, hl, hT, hk, n0, n1, n2, n3 => simp [kidM] at hk
        | 21, hl, hT, hk, n0, n1, n2, n3 =>
          obtain ⟨x9, hk⟩ := hk
          have h9 : a' = a ∧ b' = b := by
            simp at hk
            exact ⟨hk.1.symm, hk.2.1.symm⟩
          obtain ⟨z1, z2⟩ := h9
          exact hT (Or.inr (by obtain ⟨_, _, h3⟩ := hl; have h3 : k' = 0 := h3; subst z1; subst z2; subst h3; rfl))
        | 22, hl, hT, hk, n0, n1, n2, n3 => simp [kidM] at hk
        | 23, hl, hT, hk, n0, n1, n2, n3 => simp [kidM] at hk
        | 24, hl, hT, hk, n0, n1, n2, n3 => simp [kidM] at hk
        | 25, hl, hT, hk, n0, n1, n2, n3 => simp [kidM] at hk
        | 26, hl, hT, hk, n0, n1, n2, n3 => simp [kidM] at hk
        | 27, hl, hT, hk, n0, n1, n2, n3 => simp [kidM] at hk
        | n + 28, hl, hT, hk, n0, n1, n2, n3 => exact hl.elim
      · subst z
        obtain ⟨t, a', b', k'⟩ := q
        match t, hl, hT, hk, n0, n1, n2, n3 with
        | 0, hl, hT, hk, n0, n1, n2, n3 => simp [kidM] at hk
        | 1, hl, hT, hk, n0, n1, n2, n3 => simp [kidM] at hk
        | 2, hl, hT, hk, n0, n1, n2, n3 => simp [kidM] at hk
        | 3, hl, hT, hk, n0, n1, n2, n3 => simp [kidM] at hk
        | 4, hl, hT, hk, n0, n1, n2, n3 => simp [kidM] at hk
        | 5, hl, hT, hk, n0, n1, n2, n3 => simp [kidM] at hk
        | 6, hl, hT, hk, n0, n1, n2, n3 => simp [kidM] at hk
        | 7, hl, hT, hk, n0, n1, n2, n3 => simp [kidM] at hk
        | 8, hl, hT, hk, n0, n1, n2, n3 => simp [kidM] at hk
        | 9, hl, hT, hk, n0, n1, n2, n3 => simp [kidM] at hk
        | 10, hl, hT, hk, n0, n1, n2, n3 => simp [kidM] at hk
        | 11, hl, hT, hk, n0, n1, n2, n3 => simp [kidM] at hk
        | 12, hl, hT, hk, n0, n1, n2, n3 => simp [kidM] at hk
        | 13, hl, hT, hk, n0, n1, n2, n3 => simp [kidM] at hk
        | 14, hl, hT, hk, n0, n1, n2, n3 => simp [kidM] at hk
        | 15, hl, hT, hk, n0, n1, n2, n3 => simp [kidM] at hk
        | 16, hl, hT, hk, n0, n1, n2, n3 => simp [kidM] at hk
        | 17, hl, hT, hk, n0, n1, n2, n3 =>
          obtain ⟨x9, hk⟩ := hk
          have h9 : a' = a ∧ b' = b := by
            simp at hk
            exact ⟨hk.1.symm, hk.2.1.symm⟩
          obtain ⟨z1, z2⟩ := h9
          exact hT (Or.inl (by obtain ⟨_, _, h3⟩ := hl; have h3 : k' = 0 := h3; subst z1; subst z2; subst h3; rfl))
        | 18, hl, hT, hk, n0, n1, n2, n3 => simp [kidM] at hk
        | 19, hl, hT, hk, n0, n1, n2, n3 => simp [kidM] at hk
        | 20, hl, hT, hk, n0, n1, n2, n3 => simp [kidM] at hk
        | 21, hl, hT, hk, n0, n1, n2, n3 => simp [kidM] at hk
        | 22, hl, hT, hk, n0, n1, n2, n3 => simp [kidM] at hk
        | 23, hl, hT, hk, n0, n1, n2, n3 => simp [kidM] at hk
        | 24, hl, hT, hk, n0, n1, n2, n3 => simp [kidM] at hk
        | 25, hl, hT, hk, n0, n1, n2, n3 => simp [kidM] at hk
        | 26, hl, hT, hk, n0, n1, n2, n3 => simp [kidM] at hk
        | 27, hl, hT, hk, n0, n1, n2, n3 => simp [kidM] at hk
        | n + 28, hl, hT, hk, n0, n1, n2, n3 => exact hl.elim
      · subst z
        obtain ⟨t, a', b', k'⟩ := q
        match t, hl, hT, hk, n0, n1, n2, n3 with
        | 0, hl, hT, hk, n0, n1, n2, n3 => simp [kidM] at hk
        | 1, hl, hT, hk, n0, n1, n2, n3 => simp [kidM] at hk
        | 2, hl, hT, hk, n0, n1, n2, n3 => simp [kidM] at hk
        | 3, hl, hT, hk, n0, n1, n2, n3 => simp [kidM] at hk
        | 4, hl, hT, hk, n0, n1, n2, n3 => simp [kidM] at hk
        | 5, hl, hT, hk, n0, n1, n2, n3 => simp [kidM] at hk
        | 6, hl, hT, hk, n0, n1, n2, n3 => simp [kidM] at hk
        | 7, hl, hT, hk, n0, n1, n2, n3 => simp [kidM] at hk
        | 8, hl, hT, hk, n0, n1, n2, n3 => simp [kidM] at hk
        | 9, hl, hT, hk, n0, n1, n2, n3 => simp [kidM] at hk
        | 10, hl, hT, hk, n0, n1, n2, n3 => simp [kidM] at hk
        | 11, hl, hT, hk, n0, n1, n2, n3 => simp [kidM] at hk
        | 12, hl, hT, hk, n0, n1, n2, n3 => simp [kidM] at hk
        | 13, hl, hT, hk, n0, n1, n2, n3 => simp [kidM] at hk
        | 14, hl, hT, hk, n0, n1, n2, n3 => simp [kidM] at hk
        | 15, hl, hT, hk, n0, n1, n2, n3 => simp [kidM] at hk
        | 16, hl, hT, hk, n0, n1, n2, n3 => simp [kidM] at hk
        | 17, hl, hT, hk, n0, n1, n2, n3 => simp [kidM] at hk
        | 18, hl, hT, hk, n0, n1, n2, n3 => simp [kidM] at hk
        | 19, hl, hT, hk, n0, n1, n2, n3 => simp [kidM] at hk
        | 20, hl, hT, hk, n0, n1, n2, n3 => simp [kidM] at hk
        | 21, hl, hT, hk, n0, n1, n2, n3 =>
          obtain ⟨x9, hk⟩ := hk
          have h9 : a' = a ∧ b' = b := by
            simp at hk
            exact ⟨hk.1.symm, hk.2.1.symm⟩
          obtain ⟨z1, z2⟩ := h9
          exact hT (Or.inr (by obtain ⟨_, _, h3⟩ := hl; have h3 : k' = 0 := h3; subst z1; subst z2; subst h3; rfl))
        | 22, hl, hT, hk, n0, n1, n2, n3 => simp [kidM] at hk
        | 23, hl, hT, hk, n0, n1, n2, n3 => simp [kidM] at hk
        | 24, hl, hT, hk, n0, n1, n2, n3 => simp [kidM] at hk
        | 25, hl, hT, hk, n0, n1, n2, n3 => simp [kidM] at hk
        | 26, hl, hT, hk, n0, n1, n2, n3 => simp [kidM] at hk
        | 27, hl, hT, hk, n0, n1, n2, n3 => simp [kidM] at hk
        | n + 28, hl, hT, hk, n0, n1, n2, n3 => exact hl.elim
    obtain ⟨t, a', b', k'⟩ := q
    match t, hl, hT, hx, n0, n1, n2, n3 with
    | 0, hl, hT, hx, n0, n1, n2, n3 => exact hx
    | 1, hl, hT, hx, n0, n1, n2, n3 => exact hx
    | 2, hl, hT, hx, n0, n1, n2, n3 => exact hx
    | 3, hl, hT, hx, n0, n1, n2, n3 => exact hx
    | 4, hl, hT, hx, n0, n1, n2, n3 => exact hx
    | 5, hl, hT, hx, n0, n1, n2, n3 => exact hx
    | 6, hl, hT, hx, n0, n1, n2, n3 => exact hx
    | 7, hl, hT, hx, n0, n1, n2, n3 => exact hx
    | 8, hl, hT, hx, n0, n1, n2, n3 => exact hx
    | 9, hl, hT, hx, n0, n1, n2, n3 => exact hx
    | 10, hl, hT, hx, n0, n1, n2, n3 => exact hx
    | 11, hl, hT, hx, n0, n1, n2, n3 => exact hx
    | 12, hl, hT, hx, n0, n1, n2, n3 => exact hx
    | 13, hl, hT, hx, n0, n1, n2, n3 => exact hx
    | 14, hl, hT, hx, n0, n1, n2, n3 => exact hx
    | 15, hl, hT, hx, n0, n1, n2, n3 => exact hx
    | 16, hl, hT, hx, n0, n1, n2, n3 => exact hx
    | 17, hl, hT, hx, n0, n1, n2, n3 => exact hx
    | 18, hl, hT, hx, n0, n1, n2, n3 =>
      have kq : se' a' b' k' = s.m.se a' b' k' := by
        by_cases hab : a' = a ∧ b' = b
        · obtain ⟨z1, z2⟩ := hab
          subst z1; subst z2
          have hk8 : k' < 3 := hl.2.2
          have hk9 : k' = 0 ∨ k' = 1 ∨ k' = 2 := by omega
          rcases hk9 with z3 | z3 | z3 <;> subst z3
          · first | exact absurd rfl n0 | exact absurd rfl n1 | exact absurd rfl n2 | exact absurd rfl n3 | exact h0
          · first | exact absurd rfl n0 | exact absurd rfl n1 | exact absurd rfl n2 | exact absurd rfl n3 | exact h1
          · first | exact absurd rfl n0 | exact absurd rfl n1 | exact absurd rfl n2 | exact absurd rfl n3 | exact h2
        · exact hoth _ _ _ hab
      show okA x 0 9 (fun f => (se' a' b' k' = Option.none → f 0 = 0) ∧ ∀ z, se' a' b' k' = Option.some z → okSes z f)
      rw [kq]; exact hx
    | 19, hl, hT, hx, n0, n1, n2, n3 => exact hx
    | 20, hl, hT, hx, n0, n1, n2, n3 => exact hx
    | 21, hl, hT, hx, n0, n1, n2, n3 => exact hx
    | 22, hl, hT, hx, n0, n1, n2, n3 =>
      have kq : se' a' b' k' = s.m.se a' b' k' := by
        by_cases hab : a' = a ∧ b' = b
        · obtain ⟨z1, z2⟩ := hab
          subst z1; subst z2
          have hk8 : k' < 3 := hl.2.2
          have hk9 : k' = 0 ∨ k' = 1 ∨ k' = 2 := by omega
          rcases hk9 with z3 | z3 | z3 <;> subst z3
          · first | exact absurd rfl n0 | exact absurd rfl n1 | exact absurd rfl n2 | exact absurd rfl n3 | exact h0
          · first | exact absurd rfl n0 | exact absurd rfl n1 | exact absurd rfl n2 | exact absurd rfl n3 | exact h1
          · first | exact absurd rfl n0 | exact absurd rfl n1 | exact absurd rfl n2 | exact absurd rfl n3 | exact h2
        · exact hoth _ _ _ hab
      show okA x 1 40 (fun f => ∀ z, se' a' b' k' = Option.some z → f = z.seen)
      rw [kq]; exact hx
    | 23, hl, hT, hx, n0, n1, n2, n3 => exact hx
    | 24, hl, hT, hx, n0, n1, n2, n3 => exact hx
    | 25, hl, hT, hx, n0, n1, n2, n3 => exact hx
    | 26, hl, hT, hx, n0, n1, n2, n3 => exact hx
    | 27, hl, hT, hx, n0, n1, n2, n3 => exact hx
    | n + 28, hl, hT, hx, n0, n1, n2, n3 => exact hl.elim
theorem R.ms_turn {A ad : Ro → Nat} {s : Wo} {w w' : Hp} {a b : Nat} {se' : Nat → Nat → Nat → Option Ses} {fs ft : Nat → Option Nat} {gS gN : Nat} (h : R A ad s w) (ha : a < 3) (hb : b < 3) (aS : ∀ r, Lv s r → ad r ≠ gS) (aN : ∀ r, Lv s r → ad r ≠ gN) (hne : gS ≠ gN) (hS : okA (w' gS) 0 9 (fun f => (se' a b 2 = Option.none → f 0 = 0) ∧ ∀ z, se' a b 2 = Option.some z → okSes z f)) (hN : okA (w' gN) 1 40 (fun f => ∀ z, se' a b 2 = Option.some z → f = z.seen)) (h0 : se' a b 0 = s.m.se a b 1) (h1 : se' a b 1 = s.m.se a b 2) (hoth : ∀ i j k, ¬ (i = a ∧ j = b) → se' i j k = s.m.se i j k) (hs2 : w' (ad (m_se2 a b)) = Option.some (aP 7 3 fs)) (ht2 : w' (ad (m_tk2 a b)) = Option.some (aP 10 3 ft)) (fs0 : fs 0 = Option.some (ad (m_se3 a b 1))) (ft0 : ft 0 = Option.some (ad (m_tk3 a b 1))) (fs1 : fs 1 = Option.some (ad (m_se3 a b 2))) (ft1 : ft 1 = Option.some (ad (m_tk3 a b 2))) (fs2 : fs 2 = Option.some gS) (ft2 : ft 2 = Option.some gN)
    (hw : ∀ q, q ≠ ad (m_se2 a b) → q ≠ ad (m_tk2 a b) → q ≠ gS → q ≠ gN → w' q = w q)
    (hro : ∀ a, w' a = Option.some roE → a = ad c_e) : R A (srM ad (fun q => if q = (18, a, b, 0) then .inl (18, a, b, 1) else if q = (22, a, b, 0) then .inl (22, a, b, 1) else if q = (18, a, b, 1) then .inl (18, a, b, 2) else if q = (22, a, b, 1) then .inl (22, a, b, 2) else if q = (18, a, b, 2) then .inr gS else if q = (22, a, b, 2) then .inr gN else .inl q)) ((((s.s_m (s.m.s_se se')).s_th s.th).s_sm s.sm).s_o s.o) w' := by
  obtain ⟨src, hsrc⟩ : ∃ z : Rq → Rq ⊕ Nat, z = fun q => if q = (18, a, b, 0) then .inl (18, a, b, 1) else if q = (22, a, b, 0) then .inl (22, a, b, 1) else if q = (18, a, b, 1) then .inl (18, a, b, 2) else if q = (22, a, b, 1) then .inl (22, a, b, 2) else if q = (18, a, b, 2) then .inr gS else if q = (22, a, b, 2) then .inr gN else .inl q := ⟨_, rfl⟩
  rw [← hsrc]
  have m0 : src (18, a, b, 0) = .inl (18, a, b, 1) := by
    rw [hsrc]; show (if _ = _ then _ else _) = _
    rw [if_pos rfl]
  have m1 : src (22, a, b, 0) = .inl (22, a, b, 1) := by
    rw [hsrc]; show (if _ = _ then _ else _) = _
    rw [if_neg (fun z => by simp at z)]
    rw [if_pos rfl]
  have m2 : src (18, a, b, 1) = .inl (18, a, b, 2) := by
    rw [hsrc]; show (if _ = _ then _ else _) = _
    rw [if_neg (fun z => by simp at z)]
    rw [if_neg (fun z => by simp at z)]
    rw [if_pos rfl]
  have m3 : src (22, a, b, 1) = .inl (22, a, b, 2) := by
    rw [hsrc]; show (if _ = _ then _ else _) = _
    rw [if_neg (fun z => by simp at z)]
    rw [if_neg (fun z => by simp at z)]
    rw [if_neg (fun z => by simp at z)]
    rw [if_pos rfl]
  have m4 : src (18, a, b, 2) = .inr gS := by
    rw [hsrc]; show (if _ = _ then _ else _) = _
    rw [if_neg (fun z => by simp at z)]
    rw [if_neg (fun z => by simp at z)]
    rw [if_neg (fun z => by simp at z)]
    rw [if_neg (fun z => by simp at z)]
    rw [if_pos rfl]
  have m5 : src (22, a, b, 2) = .inr gN := by
    rw [hsrc]; show (if _ = _ then _ else _) = _
    rw [if_neg (fun z => by simp at z)]
    rw [if_neg (fun z => by simp at z)]
    rw [if_neg (fun z => by simp at z)]
    rw [if_neg (fun z => by simp at z)]
    rw [if_neg (fun z => by simp at z)]
    rw [if_pos rfl]
  have mn : ∀ q, q ≠ (18, a, b, 0) → q ≠ (22, a, b, 0) → q ≠ (18, a, b, 1) → q ≠ (22, a, b, 1) → q ≠ (18, a, b, 2) → q ≠ (22, a, b, 2) → src q = .inl q := by
    intro q n0 n1 n2 n3 n4 n5
    rw [hsrc]
    show (if _ = _ then _ else _) = _
    rw [if_neg n0, if_neg n1, if_neg n2, if_neg n3, if_neg n4, if_neg n5]
  have v0 : srM ad src (m_se3 a b 0) = ad (m_se3 a b 1) := srM_o m0
  have v1 : srM ad src (m_tk3 a b 0) = ad (m_tk3 a b 1) := srM_o m1
  have v2 : srM ad src (m_se3 a b 1) = ad (m_se3 a b 2) := srM_o m2
  have v3 : srM ad src (m_tk3 a b 1) = ad (m_tk3 a b 2) := srM_o m3
  have v4 : srM ad src (m_se3 a b 2) = gS := srM_n m4
  have v5 : srM ad src (m_tk3 a b 2) = gN := srM_n m5
  have vn : ∀ q, q ≠ (18, a, b, 0) → q ≠ (22, a, b, 0) → q ≠ (18, a, b, 1) → q ≠ (22, a, b, 1) → q ≠ (18, a, b, 2) → q ≠ (22, a, b, 2) → srM ad src (.inr q) = ad (.inr q) := fun q n0 n1 n2 n3 n4 n5 => srM_o (mn q n0 n1 n2 n3 n4 n5)
  refine h.genM2 (s.m.s_se se') s.th s.sm s.o src (fun q => q = (17, a, b, 0) ∨ q = (21, a, b, 0)) ?_ ?_ ?_ ?_ ?_ ?_ ?_ hro
  · intro q hq
    exact mn q (fun z => by subst z; exact absurd (show false = true from hq) (by decide)) (fun z => by subst z; exact absurd (show false = true from hq) (by decide)) (fun z => by subst z; exact absurd (show false = true from hq) (by decide)) (fun z => by subst z; exact absurd (show false = true from hq) (by decide)) (fun z => by subst z; exact absurd (show false = true from hq) (by decide)) (fun z => by subst z; exact absurd (show false = true from hq) (by decide))
  · intro q q0 hl e
    by_cases n0 : q = (18, a, b, 0)
    · subst n0; rw [m0] at e
      cases e; exact ⟨ha, hb, (show 1 < 3 by decide)⟩
    by_cases n1 : q = (22, a, b, 0)
    · subst n1; rw [m1] at e
      cases e; exact ⟨ha, hb, (show 1 < 3 by decide)⟩
    by_cases n2 : q = (18, a, b, 1)
    · subst n2; rw [m2] at e
      cases e; exact ⟨ha, hb, (show 2 < 3 by decide)⟩
    by_cases n3 : q = (22, a, b, 1)
    · subst n3; rw [m3] at e
      cases e; exact ⟨ha, hb, (show 2 < 3 by decide)⟩
    by_cases n4 : q = (18, a, b, 2)
    · subst n4; rw [m4] at e
      cases e
    by_cases n5 : q = (22, a, b, 2)
    · subst n5; rw [m5] at e
      cases e
    rw [mn q n0 n1 n2 n3 n4 n5] at e
    cases e
    obtain ⟨t, a', b', k'⟩ := q
    match t, hl, n0, n1, n2, n3, n4, n5 with
    | 0, hl, n0, n1, n2, n3, n4, n5 => exact hl
    | 1, hl, n0, n1, n2, n3, n4, n5 => exact hl
    | 2, hl, n0, n1, n2, n3, n4, n5 => exact hl
    | 3, hl, n0, n1, n2, n3, n4, n5 => exact hl
    | 4, hl, n0, n1, n2, n3, n4, n5 => exact hl
    | 5, hl, n0, n1, n2, n3, n4, n5 => exact hl
    | 6, hl, n0, n1, n2, n3, n4, n5 => exact hl
    | 7, hl, n0, n1, n2, n3, n4, n5 => exact hl
    | 8, hl, n0, n1, n2, n3, n4, n5 => exact hl
    | 9, hl, n0, n1, n2, n3, n4, n5 => exact hl
    | 10, hl, n0, n1, n2, n3, n4, n5 => exact hl
    | 11, hl, n0, n1, n2, n3, n4, n5 => exact hl
    | 12, hl, n0, n1, n2, n3, n4, n5 => exact hl
    | 13, hl, n0, n1, n2, n3, n4, n5 => exact hl
    | 14, hl, n0, n1, n2, n3, n4, n5 => exact hl
    | 15, hl, n0, n1, n2, n3, n4, n5 => exact hl
    | 16, hl, n0, n1, n2, n3, n4, n5 => exact hl
    | 17, hl, n0, n1, n2, n3, n4, n5 => exact hl
    | 18, hl, n0, n1, n2, n3, n4, n5 => exact hl
    | 19, hl, n0, n1, n2, n3, n4, n5 => exact hl
    | 20, hl, n0, n1, n2, n3, n4, n5 => exact hl
    | 21, hl, n0, n1, n2, n3, n4, n5 => exact hl
    | 22, hl, n0, n1, n2, n3, n4, n5 => exact hl
    | 23, hl, n0, n1, n2, n3, n4, n5 => exact hl
    | 24, hl, n0, n1, n2, n3, n4, n5 => exact hl
    | 25, hl, n0, n1, n2, n3, n4, n5 => exact hl
    | 26, hl, n0, n1, n2, n3, n4, n5 => exact hl
    | 27, hl, n0, n1, n2, n3, n4, n5 => exact hl
    | n + 28, hl, n0, n1, n2, n3, n4, n5 => exact hl.elim
  · intro q g hl e r hr
    by_cases n0 : q = (18, a, b, 0)
    · subst n0; rw [m0] at e; cases e
    by_cases n1 : q = (22, a, b, 0)
    · subst n1; rw [m1] at e; cases e
    by_cases n2 : q = (18, a, b, 1)
    · subst n2; rw [m2] at e; cases e
    by_cases n3 : q = (22, a, b, 1)
    · subst n3; rw [m3] at e; cases e
    by_cases n4 : q = (18, a, b, 2)
    · subst n4; rw [m4] at e; cases e; exact aS r hr
    by_cases n5 : q = (22, a, b, 2)
    · subst n5; rw [m5] at e; cases e; exact aN r hr
    rw [mn q n0 n1 n2 n3 n4 n5] at e; cases e
  · intro q q' hl hl' e
    by_cases n0 : q = (18, a, b, 0)
    · subst n0; rw [m0] at e
      by_cases p0 : q' = (18, a, b, 0)
      · exact p0.symm
      by_cases p1 : q' = (22, a, b, 0)
      · subst p1; rw [m1] at e; simp at e
      by_cases p2 : q' = (18, a, b, 1)
      · subst p2; rw [m2] at e; simp at e
      by_cases p3 : q' = (22, a, b, 1)
      · subst p3; rw [m3] at e; simp at e
      by_cases p4 : q' = (18, a, b, 2)
      · subst p4; rw [m4] at e; cases e
      by_cases p5 : q' = (22, a, b, 2)
      · subst p5; rw [m5] at e; cases e
      rw [mn q' p0 p1 p2 p3 p4 p5] at e
      cases e; first | exact absurd rfl p0 | exact absurd rfl p1 | exact absurd rfl p2 | exact absurd rfl p3 | exact absurd rfl p4 | exact absurd rfl p5
    by_cases n1 : q = (22, a, b, 0)
    · subst n1; rw [m1] at e
      by_cases p0 : q' = (18, a, b, 0)
      · subst p0; rw [m0] at e; simp at e
      by_cases p1 : q' = (22, a, b, 0)
      · exact p1.symm
      by_cases p2 : q' = (18, a, b, 1)
      · subst p2; rw [m2] at e; simp at e
      by_cases p3 : q' = (22, a, b, 1)
      · subst p3; rw [m3] at e; simp at e
      by_cases p4 : q' = (18, a, b, 2)
      · subst p4; rw [m4] at e; cases e
      by_cases p5 : q' = (22, a, b, 2)
      · subst p5; rw [m5] at e; cases e
      rw [mn q' p0 p1 p2 p3 p4 p5] at e
      cases e; first | exact absurd rfl p0 | exact absurd rfl p1 | exact absurd rfl p2 | exact absurd rfl p3 | exact absurd rfl p4 | exact absurd rfl p5
    by_cases n2 : q = (18, a, b, 1)
    · subst n2; rw [m2] at e
      by_cases p0 : q' = (18, a, b, 0)
      · subst p0; rw [m0] at e; simp at e
      by_cases p1 : q' = (22, a, b, 0)
      · subst p1; rw [m1] at e; simp at e
      by_cases p2 : q' = (18, a, b, 1)
      · exact p2.symm
      by_cases p3 : q' = (22, a, b, 1)
      · subst p3; rw [m3] at e; simp at e
      by_cases p4 : q' = (18, a, b, 2)
      · subst p4; rw [m4] at e; cases e
      by_cases p5 : q' = (22, a, b, 2)
      · subst p5; rw [m5] at e; cases e
      rw [mn q' p0 p1 p2 p3 p4 p5] at e
      cases e; first | exact absurd rfl p0 | exact absurd rfl p1 | exact absurd rfl p2 | exact absurd rfl p3 | exact absurd rfl p4 | exact absurd rfl p5
    by_cases n3 : q = (22, a, b, 1)
    · subst n3; rw [m3] at e
      by_cases p0 : q' = (18, a, b, 0)
      · subst p0; rw [m0] at e; simp at e
      by_cases p1 : q' = (22, a, b, 0)
      · subst p1; rw [m1] at e; simp at e
      by_cases p2 : q' = (18, a, b, 1)
      · subst p2; rw [m2] at e; simp at e
      by_cases p3 : q' = (22, a, b, 1)
      · exact p3.symm
      by_cases p4 : q' = (18, a, b, 2)
      · subst p4; rw [m4] at e; cases e
      by_cases p5 : q' = (22, a, b, 2)
      · subst p5; rw [m5] at e; cases e
      rw [mn q' p0 p1 p2 p3 p4 p5] at e
      cases e; first | exact absurd rfl p0 | exact absurd rfl p1 | exact absurd rfl p2 | exact absurd rfl p3 | exact absurd rfl p4 | exact absurd rfl p5
    by_cases n4 : q = (18, a, b, 2)
    · subst n4; rw [m4] at e
      by_cases p0 : q' = (18, a, b, 0)
      · subst p0; rw [m0] at e; cases e
      by_cases p1 : q' = (22, a, b, 0)
      · subst p1; rw [m1] at e; cases e
      by_cases p2 : q' = (18, a, b, 1)
      · subst p2; rw [m2] at e; cases e
      by_cases p3 : q' = (22, a, b, 1)
      · subst p3; rw [m3] at e; cases e
      by_cases p4 : q' = (18, a, b, 2)
      · exact p4.symm
      by_cases p5 : q' = (22, a, b, 2)
      · subst p5; rw [m5] at e; first | exact absurd (Sum.inr.inj e) hne | exact absurd (Sum.inr.inj e).symm hne
      rw [mn q' p0 p1 p2 p3 p4 p5] at e
      cases e
    by_cases n5 : q = (22, a, b, 2)
    · subst n5; rw [m5] at e
      by_cases p0 : q' = (18, a, b, 0)
      · subst p0; rw [m0] at e; cases e
      by_cases p1 : q' = (22, a, b, 0)
      · subst p1; rw [m1] at e; cases e
      by_cases p2 : q' = (18, a, b, 1)
      · subst p2; rw [m2] at e; cases e
      by_cases p3 : q' = (22, a, b, 1)
      · subst p3; rw [m3] at e; cases e
      by_cases p4 : q' = (18, a, b, 2)
      · subst p4; rw [m4] at e; first | exact absurd (Sum.inr.inj e) hne | exact absurd (Sum.inr.inj e).symm hne
      by_cases p5 : q' = (22, a, b, 2)
      · exact p5.symm
      rw [mn q' p0 p1 p2 p3 p4 p5] at e
      cases e
    rw [mn q n0 n1 n2 n3 n4 n5] at e
    by_cases p0 : q' = (18, a, b, 0)
    · subst p0; rw [m0] at e; cases e; first | exact absurd rfl n0 | exact absurd rfl n1 | exact absurd rfl n2 | exact absurd rfl n3 | exact absurd rfl n4 | exact absurd rfl n5
    by_cases p1 : q' = (22, a, b, 0)
    · subst p1; rw [m1] at e; cases e; first | exact absurd rfl n0 | exact absurd rfl n1 | exact absurd rfl n2 | exact absurd rfl n3 | exact absurd rfl n4 | exact absurd rfl n5
    by_cases p2 : q' = (18, a, b, 1)
    · subst p2; rw [m2] at e; cases e; first | exact absurd rfl n0 | exact absurd rfl n1 | exact absurd rfl n2 | exact absurd rfl n3 | exact absurd rfl n4 | exact absurd rfl n5
    by_cases p3 : q' = (22, a, b, 1)
    · subst p3; rw [m3] at e; cases e; first | exact absurd rfl n0 | exact absurd rfl n1 | exact absurd rfl n2 | exact absurd rfl n3 | exact absurd rfl n4 | exact absurd rfl n5
    by_cases p4 : q' = (18, a, b, 2)
    · subst p4; rw [m4] at e; cases e
    by_cases p5 : q' = (22, a, b, 2)
    · subst p5; rw [m5] at e; cases e
    rw [mn q' p0 p1 p2 p3 p4 p5] at e
    exact Sum.inl.inj e
  · intro r hl hT
    exact hw _ (fun z => hT _ (h.inj _ _ hl (show Lv s (m_se2 a b) from l_m_se2 (s := s) ha hb) z) (Or.inl rfl)) (fun z => hT _ (h.inj _ _ hl (show Lv s (m_tk2 a b) from l_m_tk2 (s := s) ha hb) z) (Or.inr rfl)) (aS r hl) (aN r hl)
  · intro q hl hm
    by_cases n0 : q = (18, a, b, 0)
    · subst n0
      have hl9 : Lv s (m_se3 a b 1) := ⟨ha, hb, (show 1 < 3 by decide)⟩
      have hww : w' (ad (m_se3 a b 1)) = w (ad (m_se3 a b 1)) := hw _ (fun z => by cases h.inj _ _ hl9 (l_m_se2 (s := s) ha hb) z) (fun z => by cases h.inj _ _ hl9 (l_m_tk2 (s := s) ha hb) z) (aS _ hl9) (aN _ hl9)
      show okA (w' (srM ad src (m_se3 a b 0))) 0 9 (fun f => (se' a b 0 = Option.none → f 0 = 0) ∧ ∀ z, se' a b 0 = Option.some z → okSes z f)
      rw [v0, hww, h0]
      exact h.gm_se3 ha hb (by decide)
    by_cases n1 : q = (22, a, b, 0)
    · subst n1
      have hl9 : Lv s (m_tk3 a b 1) := ⟨ha, hb, (show 1 < 3 by decide)⟩
      have hww : w' (ad (m_tk3 a b 1)) = w (ad (m_tk3 a b 1)) := hw _ (fun z => by cases h.inj _ _ hl9 (l_m_se2 (s := s) ha hb) z) (fun z => by cases h.inj _ _ hl9 (l_m_tk2 (s := s) ha hb) z) (aS _ hl9) (aN _ hl9)
      show okA (w' (srM ad src (m_tk3 a b 0))) 1 40 (fun f => ∀ z, se' a b 0 = Option.some z → f = z.seen)
      rw [v1, hww, h0]
      exact h.gm_tk3 ha hb (by decide)
    by_cases n2 : q = (18, a, b, 1)
    · subst n2
      have hl9 : Lv s (m_se3 a b 2) := ⟨ha, hb, (show 2 < 3 by decide)⟩
      have hww : w' (ad (m_se3 a b 2)) = w (ad (m_se3 a b 2)) := hw _ (fun z => by cases h.inj _ _ hl9 (l_m_se2 (s := s) ha hb) z) (fun z => by cases h.inj _ _ hl9 (l_m_tk2 (s := s) ha hb) z) (aS _ hl9) (aN _ hl9)
      show okA (w' (srM ad src (m_se3 a b 1))) 0 9 (fun f => (se' a b 1 = Option.none → f 0 = 0) ∧ ∀ z, se' a b 1 = Option.some z → okSes z f)
      rw [v2, hww, h1]
      exact h.gm_se3 ha hb (by decide)
    by_cases n3 : q = (22, a, b, 1)
    · subst n3
      have hl9 : Lv s (m_tk3 a b 2) := ⟨ha, hb, (show 2 < 3 by decide)⟩
      have hww : w' (ad (m_tk3 a b 2)) = w (ad (m_tk3 a b 2)) := hw _ (fun z => by cases h.inj _ _ hl9 (l_m_se2 (s := s) ha hb) z) (fun z => by cases h.inj _ _ hl9 (l_m_tk2 (s := s) ha hb) z) (aS _ hl9) (aN _ hl9)
      show okA (w' (srM ad src (m_tk3 a b 1))) 1 40 (fun f => ∀ z, se' a b 1 = Option.some z → f = z.seen)
      rw [v3, hww, h1]
      exact h.gm_tk3 ha hb (by decide)
    by_cases n4 : q = (18, a, b, 2)
    · subst n4
      show okA (w' (srM ad src (m_se3 a b 2))) 0 9 (fun f => (se' a b 2 = Option.none → f 0 = 0) ∧ ∀ z, se' a b 2 = Option.some z → okSes z f)
      rw [v4]; exact hS
    by_cases n5 : q = (22, a, b, 2)
    · subst n5
      show okA (w' (srM ad src (m_tk3 a b 2))) 1 40 (fun f => ∀ z, se' a b 2 = Option.some z → f = z.seen)
      rw [v5]; exact hN
    rcases hm with hm | hm
    · exact absurd (mn q n0 n1 n2 n3 n4 n5) hm
    rcases hm with rfl | rfl
    · rw [show srM ad src (m_se2 a b) = ad (m_se2 a b) from vn (17, a, b, 0) (fun z => by simp at z) (fun z => by simp at z) (fun z => by simp at z) (fun z => by simp at z) (fun z => by simp at z) (fun z => by simp at z)]
      show okP (w' (ad (m_se2 a b))) 7 3 3 (fun k => srM ad src (m_se3 a b k))
      refine ⟨fs, hs2, fun k hk => ?_⟩
      have hk9 : k = 0 ∨ k = 1 ∨ k = 2 := by omega
      rcases hk9 with z | z | z <;> subst z
      · exact fs0.trans (congrArg Option.some v0.symm)
      · exact fs1.trans (congrArg Option.some v2.symm)
      · exact fs2.trans (congrArg Option.some v4.symm)
    · rw [show srM ad src (m_tk2 a b) = ad (m_tk2 a b) from vn (21, a, b, 0) (fun z => by simp at z) (fun z => by simp at z) (fun z => by simp at z) (fun z => by simp at z) (fun z => by simp at z) (fun z => by simp at z)]
      show okP (w' (ad (m_tk2 a b))) 10 3 3 (fun k => srM ad src (m_tk3 a b k))
      refine ⟨ft, ht2, fun k hk => ?_⟩
      have hk9 : k = 0 ∨ k = 1 ∨ k = 2 := by omega
      rcases hk9 with z | z | z <;> subst z
      · exact ft0.trans (congrArg Option.some v1.symm)
      · exact ft1.trans (congrArg Option.some v3.symm)
      · exact ft2.trans (congrArg Option.some v5.symm)
  · intro q x hl hm hT hx
    have n0 : q ≠ (18, a, b, 0) := fun z => by subst z; rw [m0] at hm; simp at hm
    have n1 : q ≠ (22, a, b, 0) := fun z => by subst z; rw [m1] at hm; simp at hm
    have n2 : q ≠ (18, a, b, 1) := fun z => by subst z; rw [m2] at hm; simp at hm
    have n3 : q ≠ (22, a, b, 1) := fun z => by subst z; rw [m3] at hm; simp at hm
    have n4 : q ≠ (18, a, b, 2) := fun z => by subst z; rw [m4] at hm; cases hm
    have n5 : q ≠ (22, a, b, 2) := fun z => by subst z; rw [m5] at hm; cases hm
    have hx : OkM s.m s.th s.sm s.o (srM ad src) x q := by
      refine OkM.congr2 (fun q9 hk => vn q9 (fun z => ?_) (fun z => ?_) (fun z => ?_) (fun z => ?_) (fun z => ?_) (fun z => ?_)) hx
      · subst z
        obtain ⟨t, a', b', k'⟩ := q
        match t, hl, hT, hk, n0, n1, n2, n3, n4, n5 with
        | 0, hl, hT, hk, n0, n1, n2, n3, n4, n5 => simp [kidM] at hk
        | 1, hl, hT, hk, n0, n1, n2, n3, n4, n5 => simp [kidM] at hk
        | 2, hl, hT, hk, n0, n1, n2, n3, n4, n5 => simp [kidM] at hk
        | 3, hl, hT, hk, n0, n1, n2, n3, n4, n5 => simp [kidM] at hk
        | 4, hl, hT, hk, n0, n1, n2, n3, n4, n5 => simp [kidM] at hk
        | 5, hl, hT, hk, n0, n1, n2, n3, n4, n5 => simp [kidM] at hk
        | 6, hl, hT, hk, n0, n1, n2, n3, n4, n5 => simp [kidM] at hk
        | 7, hl, hT, hk, n0, n1, n2, n3, n4, n5 => simp [kidM] at hk
        | 8, hl, hT, hk, n0, n1, n2, n3, n4, n5 => simp [kidM] at hk
        | 9, hl, hT, hk, n0, n1, n2, n3, n4, n5 => simp [kidM] at hk
        | 10, hl, hT, hk, n0, n1, n2, n3, n4, n5 => simp [kidM] at hk
        | 11, hl, hT, hk, n0, n1, n2, n3, n4, n5 => simp [kidM] at hk
        | 12, hl, hT, hk, n0, n1, n2, n3, n4, n5 => simp [kidM] at hk
        | 13, hl, hT, hk, n0, n1, n2, n3, n4, n5 => simp [kidM] at hk
        | 14, hl, hT, hk, n0, n1, n2, n3, n4, n5 => simp [kidM] at hk
        | 15, hl, hT, hk, n0, n1, n2, n3, n4, n5 => simp [kidM] at hk
        | 16, hl, hT, hk, n0, n1, n2, n3, n4, n5 => simp [kidM] at hk
        | 17, hl, hT, hk, n0, n1, n2, n3, n4, n5 =>
          obtain ⟨x9, hk⟩ := hk
          have h9 : a' = a ∧ b' = b := by
            simp at hk
            exact ⟨hk.1.symm, hk.2.1.symm⟩
          obtain ⟨z1, z2⟩ := h9
          exact hT (Or.inl (by obtain ⟨_, _, h3⟩ := hl; have h3 : k' = 0 := h3; subst z1; subst z2; subst h3; rfl))
        | 18, hl, hT, hk, n0, n1, n2, n3, n4, n5 => simp [kidM] at hk
        | 19, hl, hT, hk, n0, n1, n2, n3, n4, n5 => simp [kidM] at hk
        | 20, hl, hT, hk, n0, n1, n2, n3, n4, n5 => simp [kidM] at hk
        | 21, hl, hT, hk, n0, n1, n2, n3, n4, n5 => simp [kidM] at hk
        | 22, hl, hT, hk, n0, n1, n2, n3, n4, n5 => simp [kidM] at hk
        | 23, hl, hT, hk, n0, n1, n2, n3, n4, n5 => simp [kidM] at hk
        | 24, hl, hT, hk, n0, n1, n2, n3, n4, n5 => simp [kidM] at hk
        | 25, hl, hT, hk, n0, n1, n2, n3, n4, n5 => simp [kidM] at hk
        | 26, hl, hT, hk, n0, n1, n2, n3, n4, n5 => simp [kidM] at hk
        | 27, hl, hT, hk, n0, n1, n2, n3, n4, n5 => simp [kidM] at hk
        | n + 28, hl, hT, hk, n0, n1, n2, n3, n4, n5 => exact hl.elim
      · subst z
        obtain ⟨t, a', b', k'⟩ := q
        match t, hl, hT, hk, n0, n1, n2, n3, n4, n5 with
        | 0, hl, hT, hk, n0, n1, n2, n3, n4, n5 => simp [kidM] at hk
        | 1, hl, hT, hk, n0, n1, n2, n3, n4, n5 => simp [kidM] at hk
        | 2, hl, hT, hk, n0, n1, n2, n3, n4, n5 => simp [kidM] at hk
        | 3, hl, hT, hk, n0, n1, n2, n3, n4, n5 => simp [kidM] at hk
        | 4, hl, hT, hk, n0, n1, n2, n3, n4, n5 => simp [kidM] at hk
        | 5, hl, hT, hk, n0, n1, n2, n3, n4, n5 => simp [kidM] at hk
        | 6, hl, hT, hk, n0, n1, n2, n3, n4, n5 => simp [kidM] at hk
        | 7, hl, hT, hk, n0, n1, n2, n3, n4, n5 => simp [kidM] at hk
        | 8, hl, hT, hk, n0, n1, n2, n3, n4, n5 => simp [kidM] at hk
        | 9, hl, hT, hk, n0, n1, n2, n3, n4, n5 => simp [kidM] at hk
        | 10, hl, hT, hk, n0, n1, n2, n3, n4, n5 => simp [kidM] at hk
        | 11, hl, hT, hk, n0, n1, n2, n3, n4, n5 => simp [kidM] at hk
        | 12, hl, hT, hk, n0, n1, n2, n3, n4, n5 => simp [kidM] at hk
        | 13, hl, hT, hk, n0, n1, n2, n3, n4, n5 => simp [kidM] at hk
        | 14, hl, hT, hk, n0, n1, n2, n3, n4, n5 => simp [kidM] at hk
        | 15, hl, hT, hk, n0, n1, n2, n3, n4, n5 => simp [kidM] at hk
        | 16, hl, hT, hk, n0, n1, n2, n3, n4, n5 => simp [kidM] at hk
        | 17, hl, hT, hk, n0, n1, n2, n3, n4, n5 => simp [kidM] at hk
        | 18, hl, hT, hk, n0, n1, n2, n3, n4, n5 => simp [kidM] at hk
        | 19, hl, hT, hk, n0, n1, n2, n3, n4, n5 => simp [kidM] at hk
        | 20, hl, hT, hk, n0, n1, n2, n3, n4, n5 => simp [kidM] at hk
        | 21, hl, hT, hk, n0, n1, n2, n3, n4, n5 =>
          obtain ⟨x9, hk⟩ := hk
          have h9 : a' = a ∧ b' = b := by
            simp at hk
            exact ⟨hk.1.symm, hk.2.1.symm⟩
          obtain ⟨z1, z2⟩ := h9
          exact hT (Or.inr (by obtain ⟨_, _, h3⟩ := hl; have h3 : k' = 0 := h3; subst z1; subst z2; subst h3; rfl))
        | 22, hl, hT, hk, n0, n1, n2, n3, n4, n5 => simp [kidM] at hk
        | 23, hl, hT, hk, n0, n1, n2, n3, n4, n5 => simp [kidM] at hk
        | 24, hl, hT, hk, n0, n1, n2, n3, n4, n5 => simp [kidM] at hk
        | 25, hl, hT, hk, n0, n1, n2, n3, n4, n5 => simp [kidM] at hk
        | 26, hl, hT, hk, n0, n1, n2, n3, n4, n5 => simp [kidM] at hk
        | 27, hl, hT, hk, n0, n1, n2, n3, n4, n5 => simp [kidM] at hk
        | n + 28, hl, hT, hk, n0, n1, n2, n3, n4, n5 => exact hl.elim
      · subst z
        obtain ⟨t, a', b', k'⟩ := q
        match t, hl, hT, hk, n0, n1, n2, n3, n4, n5 with
        | 0, hl, hT, hk, n0, n1, n2, n3, n4, n5 => simp [kidM] at hk
        | 1, hl, hT, hk, n0, n1, n2, n3, n4, n5 => simp [kidM] at hk
        | 2, hl, hT, hk, n0, n1, n2, n3, n4, n5 => simp [kidM] at hk
        | 3, hl, hT, hk, n0, n1, n2, n3, n4, n5 => simp [kidM] at hk
        | 4, hl, hT, hk, n0, n1, n2, n3, n4, n5 => simp [kidM] at hk
        | 5, hl, hT, hk, n0, n1, n2, n3, n4, n5 => simp [kidM] at hk
        | 6, hl, hT, hk, n0, n1, n2, n3, n4, n5 => simp [kidM] at hk
        | 7, hl, hT, hk, n0, n1, n2, n3, n4, n5 => simp [kidM] at hk
        | 8, hl, hT, hk, n0, n1, n2, n3, n4, n5 => simp [kidM] at hk
        | 9, hl, hT, hk, n0, n1, n2, n3, n4, n5 => simp [kidM] at hk
        | 10, hl, hT, hk, n0, n1, n2, n3, n4, n5 => simp [kidM] at hk
        | 11, hl, hT, hk, n0, n1, n2, n3, n4, n5 => simp [kidM] at hk
        | 12, hl, hT, hk, n0, n1, n2, n3, n4, n5 => simp [kidM] at hk
        | 13, hl, hT, hk, n0, n1, n2, n3, n4, n5 => simp [kidM] at hk
        | 14, hl, hT, hk, n0, n1, n2, n3, n4, n5 => simp [kidM] at hk
        | 15, hl, hT, hk, n0, n1, n2, n3, n4, n5 => simp [kidM] at hk
        | 16, hl, hT, hk, n0, n1, n2, n3, n4, n5 => simp [kidM] at hk
        | 17, hl, hT, hk, n0, n1, n2, n3, n4, n5 =>
          obtain ⟨x9, hk⟩ := hk
          have h9 : a' = a ∧ b' = b := by
            simp at hk
            exact ⟨hk.1.symm, hk.2.1.symm⟩
          obtain ⟨z1, z2⟩ := h9
          exact hT (Or.inl (by obtain ⟨_, _, h3⟩ := hl; have h3 : k' = 0 := h3; subst z1; subst z2; subst h3; rfl))
        | 18, hl, hT, hk, n0, n1, n2, n3, n4, n5 => simp [kidM] at hk
        | 19, hl, hT, hk, n0, n1, n2, n3, n4, n5 => simp [kidM] at hk
        | 20, hl, hT, hk, n0, n1, n2, n3, n4, n5 => simp [kidM] at hk
        | 21, hl, hT, hk, n0, n1, n2, n3, n4, n5 => simp [kidM] at hk
        | 22, hl, hT, hk, n0, n1, n2, n3, n4, n5 => simp [kidM] at hk
        | 23, hl, hT, hk, n0, n1, n2, n3, n4, n5 => simp [kidM] at hk
        | 24, hl, hT, hk, n0, n1, n2, n3, n4, n5 => simp [kidM] at hk
        | 25, hl, hT, hk, n0, n1, n2, n3, n4, n5 => simp [kidM] at hk
        | 26, hl, hT, hk, n0, n1, n2, n3, n4, n5 => simp [kidM] at hk
        | 27, hl, hT, hk, n0, n1, n2, n3, n4, n5 => simp [kidM] at hk
        | n + 28, hl, hT, hk, n0, n1, n2, n3, n4, n5 => exact hl.elim
      · subst z
        obtain ⟨t, a', b', k'⟩ := q
        match t, hl, hT, hk, n0, n1, n2, n3, n4, n5 with
        | 0, hl, hT, hk, n0, n1, n2, n3, n4, n5 => simp [kidM] at hk
        | 1, hl, hT, hk, n0, n1, n2, n3, n4, n5 => simp [kidM] at hk
        | 2, hl, hT, hk, n0, n1, n2, n3, n4, n5 => simp [kidM] at hk
        | 3, hl, hT, hk, n0, n1, n2, n3, n4, n5 => simp [kidM] at hk
        | 4, hl, hT, hk, n0, n1, n2, n3, n4, n5 => simp [kidM] at hk
        | 5, hl, hT, hk, n0, n1, n2, n3, n4, n5 => simp [kidM] at hk
        | 6, hl, hT, hk, n0, n1, n2, n3, n4, n5 => simp [kidM] at hk
        | 7, hl, hT, hk, n0, n1, n2, n3, n4, n5 => simp [kidM] at hk
        | 8, hl, hT, hk, n0, n1, n2, n3, n4, n5 => simp [kidM] at hk
        | 9, hl, hT, hk, n0, n1, n2, n3, n4, n5 => simp [kidM] at hk
        | 10, hl, hT, hk, n0, n1, n2, n3, n4, n5 => simp [kidM] at hk
        | 11, hl, hT, hk, n0, n1, n2, n3, n4, n5 => simp [kidM] at hk
        | 12, hl, hT, hk, n0, n1, n2, n3, n4, n5 => simp [kidM] at hk
        | 13, hl, hT, hk, n0, n1, n2, n3, n4, n5 => simp [kidM] at hk
        | 14, hl, hT, hk, n0, n1, n2, n3, n4, n5 => simp [kidM] at hk
        | 15, hl, hT, hk, n0, n1, n2, n3, n4, n5 => simp [kidM] at hk
        | 16, hl, hT, hk, n0, n1, n2, n3, n4, n5 => simp [kidM] at hk
        | 17, hl, hT, hk, n0, n1, n2, n3, n4, n5 => simp [kidM] at hk
        | 18, hl, hT, hk, n0, n1, n2, n3, n4, n5 => simp [kidM] at hk
        | 19, hl, hT, hk, n0, n1, n2, n3, n4, n5 => simp [kidM] at hk
        | 20, hl, hT, hk, n0, n1, n2, n3, n4, n5 => simp [kidM] at hk
        | 21, hl, hT, hk, n0, n1, n2, n3, n4, n5 =>
          obtain ⟨x9, hk⟩ := hk
          have h9 : a' = a ∧ b' = b := by
            simp at hk
            exact ⟨hk.1.symm, hk.2.1.symm⟩
          obtain ⟨z1, z2⟩ := h9
          exact hT (Or.inr (by obtain ⟨_, _, h3⟩ := hl; have h3 : k' = 0 := h3; subst z1; subst z2; subst h3; rfl))
        | 22, hl, hT, hk, n0, n1, n2, n3, n4, n5 => simp [kidM] at hk
        | 23, hl, hT, hk, n0, n1, n2, n3, n4, n5 => simp [kidM] at hk
        | 24, hl, hT, hk, n0, n1, n2, n3, n4, n5 => simp [kidM] at hk
        | 25, hl, hT, hk, n0, n1, n2, n3, n4, n5 => simp [kidM] at hk
        | 26, hl, hT, hk, n0, n1, n2, n3, n4, n5 => simp [kidM] at hk
        | 27, hl, hT, hk, n0, n1, n2, n3, n4, n5 => simp [kidM] at hk
        | n + 28, hl, hT, hk, n0, n1, n2, n3, n4, n5 => exact hl.elim
      · subst z
        obtain ⟨t, a', b', k'⟩ := q
        match t, hl, hT, hk, n0, n1, n2, n3, n4, n5 with
        | 0, hl, hT, hk, n0, n1, n2, n3, n4, n5 => simp [kidM] at hk
        | 1, hl, hT, hk, n0, n1, n2, n3, n4, n5 => simp [kidM] at hk
        | 2, hl, hT, hk, n0, n1, n2, n3, n4, n5 => simp [kidM] at hk
        | 3, hl, hT, hk, n0, n1, n2, n3, n4, n5 => simp [kidM] at hk
        | 4, hl, hT, hk, n0, n1, n2, n3, n4, n5 => simp [kidM] at hk
        | 5, hl, hT, hk, n0, n1, n2, n3, n4, n5 => simp [kidM] at hk
        | 6, hl, hT, hk, n0, n1, n2, n3, n4, n5 => simp [kidM] at hk
        | 7, hl, hT, hk, n0, n1, n2, n3, n4, n5 => simp [kidM] at hk
        | 8, hl, hT, hk, n0, n1, n2, n3, n4, n5 => simp [kidM] at hk
        | 9, hl, hT, hk, n0, n1, n2, n3, n4, n5 => simp [kidM] at hk
        | 10, hl, hT, hk, n0, n1, n2, n3, n4, n5 => simp [kidM] at hk
        | 11, hl, hT, hk, n0, n1, n2, n3, n4, n5 => simp [kidM] at hk
        | 12, hl, hT, hk, n0, n1, n2, n3, n4, n5 => simp [kidM] at hk
        | 13, hl, hT, hk, n0, n1, n2, n3, n4, n5 => simp [kidM] at hk
        | 14, hl, hT, hk, n0, n1, n2, n3, n4, n5 => simp [kidM] at hk
        | 15, hl, hT, hk, n0, n1, n2, n3, n4, n5 => simp [kidM] at hk
        | 16, hl, hT, hk, n0, n1, n2, n3, n4, n5 => simp [kidM] at hk
        | 17, hl, hT, hk, n0, n1, n2, n3, n4, n5 =>
          obtain ⟨x9, hk⟩ := hk
          have h9 : a' = a ∧ b' = b := by
            simp at hk
            exact ⟨hk.1.symm, hk.2.1.symm⟩
          obtain ⟨z1, z2⟩ := h9
          exact hT (Or.inl (by obtain ⟨_, _, h3⟩ := hl; have h3 : k' = 0 := h3; subst z1; subst z2; subst h3; rfl))
        | 18, hl, hT, hk, n0, n1, n2, n3, n4, n5 => simp [kidM] at hk
        | 19, hl, hT, hk, n0, n1, n2, n3, n4, n5 => simp [kidM] at hk
        | 20, hl, hT, hk, n0, n1, n2, n3, n4, n5 => simp [kidM] at hk
        | 21, hl, hT, hk, n0, n1, n2, n3, n4, n5 => simp [kidM] at hk
        | 22, hl, hT, hk, n0, n1, n2, n3, n4, n5 => simp [kidM] at hk
        | 23, hl, hT, hk, n0, n1, n2, n3, n4, n5 => simp [kidM] at hk
        | 24, hl, hT, hk, n0, n1, n2, n3, n4, n5 => simp [kidM] at hk
        | 25, hl, hT, hk, n0, n1, n2, n3, n4, n5 => simp [kidM] at hk
        | 26, hl, hT, hk, n0, n1, n2, n3, n4, n5 => simp [kidM] at hk
        | 27, hl, hT, hk, n0, n1, n2, n3, n4, n5 => simp [kidM] at hk
        | n + 28, hl, hT, hk, n0, n1, n2, n3, n4, n5 => exact hl.elim
      · subst z
        obtain ⟨t, a', b', k'⟩ := q
        match t, hl, hT, hk, n0, n1, n2, n3, n4, n5 with
        | 0, hl, hT, hk, n0, n1, n2, n3, n4, n5 => simp [kidM] at hk
        | 1, hl, hT, hk, n0, n1, n2, n3, n4, n5 => simp [kidM] at hk
        | 2, hl, hT, hk, n0, n1, n2, n3, n4, n5 => simp [kidM] at hk
        | 3, hl, hT, hk, n0, n1, n2, n3, n4, n5 => simp [kidM] at hk
        | 4, hl, hT, hk, n0, n1, n2, n3, n4, n5 => simp [kidM] at hk
        | 5, hl, hT, hk, n0, n1, n2, n3, n4, n5 => simp [kidM] at hk
        | 6, hl, hT, hk, n0, n1, n2, n3, n4, n5 => simp [kidM] at hk
        | 7, hl, hT, hk, n0, n1, n2, n3, n4, n5 => simp [kidM] at hk
        | 8, hl, hT, hk, n0, n1, n2, n3, n4, n5 => simp [kidM] at hk
        | 9, hl, hT, hk, n0, n1, n2, n3, n4, n5 => simp [kidM] at hk
        | 10, hl, hT, hk, n0, n1, n2, n3, n4, n5 => simp [kidM] at hk
        | 11, hl, hT, hk, n0, n1, n2, n3, n4, n5 => simp [kidM] at hk
        | 12, hl, hT, hk, n0, n1, n2, n3, n4, n5 => simp [kidM] at hk
        | 13, hl, hT, hk, n0, n1, n2, n3, n4, n5 => simp [kidM] at hk
        | 14, hl, hT, hk, n0, n1, n2, n3, n4, n5 => simp [kidM] at hk
        | 15, hl, hT, hk, n0, n1, n2, n3, n4, n5 => simp [kidM] at hk
        | 16, hl, hT, hk, n0, n1, n2, n3, n4, n5 => simp [kidM] at hk
        | 17, hl, hT, hk, n0, n1, n2, n3, n4, n5 => simp [kidM] at hk
        | 18, hl, hT, hk, n0, n1, n2, n3, n4, n5 => simp [kidM] at hk
        | 19, hl, hT, hk, n0, n1, n2, n3, n4, n5 => simp [kidM] at hk
        | 20, hl, hT, hk, n0, n1, n2, n3, n4, n5 => simp [kidM] at hk
        | 21, hl, hT, hk, n0, n1, n2, n3, n4, n5 =>
          obtain ⟨x9, hk⟩ := hk
          have h9 : a' = a ∧ b' = b := by
            simp at hk
            exact ⟨hk.1.symm, hk.2.1.symm⟩
          obtain ⟨z1, z2⟩ := h9
          exact hT (Or.inr (by obtain ⟨_, _, h3⟩ := hl; have h3 : k' = 0 := h3; subst z1; subst z2; subst h3; rfl))
        | 22, hl, hT, hk, n0, n1, n2, n3, n4, n5 => simp [kidM] at hk
        | 23, hl, hT, hk, n0, n1, n2, n3, n4, n5 => simp [kidM] at hk
        | 24, hl, hT, hk, n0, n1, n2, n3, n4, n5 => simp [kidM] at hk
        | 25, hl, hT, hk, n0, n1, n2, n3, n4, n5 => simp [kidM] at hk
        | 26, hl, hT, hk, n0, n1, n2, n3, n4, n5 => simp [kidM] at hk
        | 27, hl, hT, hk, n0, n1, n2, n3, n4, n5 => simp [kidM] at hk
        | n + 28, hl, hT, hk, n0, n1, n2, n3, n4, n5 => exact hl.elim
    obtain ⟨t, a', b', k'⟩ := q
    match t, hl, hT, hx, n0, n1, n2, n3, n4, n5 with
    | 0, hl, hT, hx, n0, n1, n2, n3, n4, n5 => exact hx
    | 1, hl, hT, hx, n0, n1, n2, n3, n4, n5 => exact hx
    | 2, hl, hT, hx, n0, n1, n2, n3, n4, n5 => exact hx
    | 3, hl, hT, hx, n0, n1, n2, n3, n4, n5 => exact hx
    | 4, hl, hT, hx, n0, n1, n2, n3, n4, n5 => exact hx
    | 5, hl, hT, hx, n0, n1, n2, n3, n4, n5 => exact hx
    | 6, hl, hT, hx, n0, n1, n2, n3, n4, n5 => exact hx
    | 7, hl, hT, hx, n0, n1, n2, n3, n4, n5 => exact hx
    | 8, hl, hT, hx, n0, n1, n2, n3, n4, n5 => exact hx
    | 9, hl, hT, hx, n0, n1, n2, n3, n4, n5 => exact hx
    | 10, hl, hT, hx, n0, n1, n2, n3, n4, n5 => exact hx
    | 11, hl, hT, hx, n0, n1, n2, n3, n4, n5 => exact hx
    | 12, hl, hT, hx, n0, n1, n2, n3, n4, n5 => exact hx
    | 13, hl, hT, hx, n0, n1, n2, n3, n4, n5 => exact hx
    | 14, hl, hT, hx, n0, n1, n2, n3, n4, n5 => exact hx
    | 15, hl, hT, hx, n0, n1, n2, n3, n4, n5 => exact hx
    | 16, hl, hT, hx, n0, n1, n2, n3, n4, n5 => exact hx
    | 17, hl, hT, hx, n0, n1, n2, n3, n4, n5 => exact hx
    | 18, hl, hT, hx, n0, n1, n2, n3, n4, n5 =>
      have kq : se' a' b' k' = s.m.se a' b' k' := by
        by_cases hab : a' = a ∧ b' = b
        · obtain ⟨z1, z2⟩ := hab
          subst z1; subst z2
          have hk8 : k' < 3 := hl.2.2
          have hk9 : k' = 0 ∨ k' = 1 ∨ k' = 2 := by omega
          rcases hk9 with z3 | z3 | z3 <;> subst z3
          · first | exact absurd rfl n0 | exact absurd rfl n1 | exact absurd rfl n2 | exact absurd rfl n3 | exact absurd rfl n4 | exact absurd rfl n5 | exact h0
          · first | exact absurd rfl n0 | exact absurd rfl n1 | exact absurd rfl n2 | exact absurd rfl n3 | exact absurd rfl n4 | exact absurd rfl n5 | exact h1
          · first | exact absurd rfl n0 | exact absurd rfl n1 | exact absurd rfl n2 | exact absurd rfl n3 | exact absurd rfl n4 | exact absurd rfl n5 | exact h2
        · exact hoth _ _ _ hab
      show okA x 0 9 (fun f => (se' a' b' k' = Option.none → f 0 = 0) ∧ ∀ z, se' a' b' k' = Option.some z → okSes z f)
      rw [kq]; exact hx
    | 19, hl, hT, hx, n0, n1, n2, n3, n4, n5 => exact hx
    | 20, hl, hT, hx, n0, n1, n2, n3, n4, n5 => exact hx
    | 21, hl, hT, hx, n0, n1, n2, n3, n4, n5 => exact hx
    | 22, hl, hT, hx, n0, n1, n2, n3, n4, n5 =>
      have kq : se' a' b' k' = s.m.se a' b' k' := by
        by_cases hab : a' = a ∧ b' = b
        · obtain ⟨z1, z2⟩ := hab
          subst z1; subst z2
          have hk8 : k' < 3 := hl.2.2
          have hk9 : k' = 0 ∨ k' = 1 ∨ k' = 2 := by omega
          rcases hk9 with z3 | z3 | z3 <;> subst z3
          · first | exact absurd rfl n0 | exact absurd rfl n1 | exact absurd rfl n2 | exact absurd rfl n3 | exact absurd rfl n4 | exact absurd rfl n5 | exact h0
          · first | exact absurd rfl n0 | exact absurd rfl n1 | exact absurd rfl n2 | exact absurd rfl n3 | exact absurd rfl n4 | exact absurd rfl n5 | exact h1
          · first | exact absurd rfl n0 | exact absurd rfl n1 | exact absurd rfl n2 | exact absurd rfl n3 | exact absurd rfl n4 | exact absurd rfl n5 | exact h2
        · exact hoth _ _ _ hab
      show okA x 1 40 (fun f => ∀ z, se' a' b' k' = Option.some z → f = z.seen)
      rw [kq]; exact hx
    | 23, hl, hT, hx, n0, n1, n2, n3, n4, n5 => exact hx
    | 24, hl, hT, hx, n0, n1, n2, n3, n4, n5 => exact hx
    | 25, hl, hT, hx, n0, n1, n2, n3, n4, n5 => exact hx
    | 26, hl, hT, hx, n0, n1, n2, n3, n4, n5 => exact hx
    | 27, hl, hT, hx, n0, n1, n2, n3, n4, n5 => exact hx
    | n + 28, hl, hT, hx, n0, n1, n2, n3, n4, n5 => exact hl.elim
