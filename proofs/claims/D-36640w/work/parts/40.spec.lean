/-! THE PLAIN LAW, 10: hellos in flight and sessions on the side of the objects (printed by gen/mkspec3.py) -/
set_option maxRecDepth 100000
theorem R.fl_new {A ad : Ro → Nat} {s : Wo} {w w' : Hp} {a b g : Nat} {z : Fl} (h : R A ad s w) (ha : a < 3) (hb : b < 3) (ag : ∀ r, Lv s r → ad r ≠ g) (hg : w' g = Option.some (.inr (5, [.int z.idx, .int z.sec, .int z.key, .int z.tag, .int z.at_]))) (hsd : w' (ad (c_sd a b)) = Option.some (.inr (2, [.int (s.c.kn a b), va_rf (oS (s.c.se a b 0) (ad (c_se a b 0))), va_rf (oS (s.c.se a b 1) (ad (c_se a b 1))), va_rf (oS (s.c.se a b 2) (ad (c_se a b 2))), rf g, .int (s.c.stT a b), .int (s.c.stS a b), .int (s.c.ck a b), .int (s.c.ckAt a b), rf (ad (c_pks a b)), .int (nI (s.c.nw a b))])))
    (hw : ∀ q, q ≠ ad (c_sd a b) → q ≠ g → w' q = w q)
    (hro : ∀ a, w' a = Option.some roE → a = ad c_e) : R A (srC ad (fun q => if q = (15, a, b, 0) then .inr g else .inl q)) ((s.s_c (s.c.s_fl (upd2 s.c.fl a b (Option.some z)))).s_ow s.ow) w' := by
  obtain ⟨src, hsrc⟩ : ∃ z : Rq → Rq ⊕ Nat, z = fun q => if q = (15, a, b, 0) then .inr g else .inl q := ⟨_, rfl⟩
  rw [← hsrc]
  have m0 : src (15, a, b, 0) = .inr g := by
    rw [hsrc]; show (if _ = _ then _ else _) = _
    rw [if_pos rfl]
  have mn : ∀ q, q ≠ (15, a, b, 0) → src q = .inl q := by
    intro q n0
    rw [hsrc]
    show (if _ = _ then _ else _) = _
    rw [if_neg n0]
  have v0 : srC ad src (c_fl a b) = g := srC_n m0
  have vn : ∀ q, q ≠ (15, a, b, 0) → srC ad src (.inl q) = ad (.inl q) := fun q n0 => srC_o (mn q n0)
  refine h.genC2 (s.c.s_fl (upd2 s.c.fl a b (Option.some z))) s.ow src (fun q => q = (10, a, b, 0)) ?_ ?_ ?_ ?_ ?_ ?_ ?_ hro
  · intro q hq
    exact mn q (fun z => by subst z; exact absurd (show false = true from hq) (by decide))
  · intro q q0 hl e
    by_cases n0 : q = (15, a, b, 0)
    · subst n0; rw [m0] at e
      cases e
    rw [mn q n0] at e
    cases e
    obtain ⟨t, a', b', k'⟩ := q
    match t, hl, n0 with
    | 0, hl, n0 => exact hl
    | 1, hl, n0 => exact hl
    | 2, hl, n0 => exact hl
    | 3, hl, n0 => exact hl
    | 4, hl, n0 => exact hl
    | 5, hl, n0 => exact hl
    | 6, hl, n0 => exact hl
    | 7, hl, n0 => exact hl
    | 8, hl, n0 => exact hl
    | 9, hl, n0 => exact hl
    | 10, hl, n0 => exact hl
    | 11, hl, n0 => exact hl
    | 12, hl, n0 => exact hl
    | 13, hl, n0 => exact hl
    | 14, hl, n0 => exact hl
    | 15, hl, n0 =>
      have hx9 : ¬ (a' = a ∧ b' = b) := fun z => n0 (by obtain ⟨_, _, _, h3⟩ := hl; obtain ⟨z1, z2⟩ := z; subst z1; subst z2; subst h3; rfl)
      exact ⟨hl.1, hl.2.1, by have h4 := hl.2.2.1; rwa [show (s.c.s_fl (upd2 s.c.fl a b (Option.some z))).fl a' b' = s.c.fl a' b' from upd2_n hx9] at h4, hl.2.2.2⟩
    | 16, hl, n0 => exact hl
    | 17, hl, n0 => exact hl
    | 18, hl, n0 => exact hl
    | 19, hl, n0 => exact hl
    | 20, hl, n0 => exact hl
    | 21, hl, n0 => exact hl
    | 22, hl, n0 => exact hl
    | 23, hl, n0 => exact hl
    | 24, hl, n0 => exact hl
    | 25, hl, n0 => exact hl
    | 26, hl, n0 => exact hl
    | n + 27, hl, n0 => exact hl.elim
  · intro q g hl e r hr
    by_cases n0 : q = (15, a, b, 0)
    · subst n0; rw [m0] at e; cases e; exact ag r hr
    rw [mn q n0] at e; cases e
  · intro q q' hl hl' e
    by_cases n0 : q = (15, a, b, 0)
    · subst n0; rw [m0] at e
      by_cases p0 : q' = (15, a, b, 0)
      · exact p0.symm
      rw [mn q' p0] at e
      cases e
    rw [mn q n0] at e
    by_cases p0 : q' = (15, a, b, 0)
    · subst p0; rw [m0] at e; cases e
    rw [mn q' p0] at e
    exact Sum.inl.inj e
  · intro r hl hT
    exact hw _ (fun z => hT _ (h.inj _ _ hl (show Lv s (c_sd a b) from l_c_sd (s := s) ha hb) z) rfl) (ag r hl)
  · intro q hl hm
    by_cases n0 : q = (15, a, b, 0)
    · subst n0
      intro z9 hz9
      have h9 : z9 = z := Option.some.inj (hz9.symm.trans upd2_s)
      subst h9
      rw [show srC ad src (.inl (15, a, b, 0)) = g from v0]; exact hg
    rcases hm with hm | hm
    · exact absurd (mn q n0) hm
    subst hm
    have e1 : srC ad src (c_sd a b) = ad (c_sd a b) := vn _ (fun z => by simp at z)
    show w' (srC ad src (c_sd a b)) = Option.some (.inr (2, [.int (s.c.kn a b), va_rf (oS (s.c.se a b 0) (srC ad src (c_se a b 0))), va_rf (oS (s.c.se a b 1) (srC ad src (c_se a b 1))), va_rf (oS (s.c.se a b 2) (srC ad src (c_se a b 2))), va_rf (oS (upd2 s.c.fl a b (Option.some z) a b) (srC ad src (c_fl a b))), .int (s.c.stT a b), .int (s.c.stS a b), .int (s.c.ck a b), .int (s.c.ckAt a b), rf (srC ad src (c_pks a b)), .int (nI (s.c.nw a b))]))
    rw [upd2_s, e1, v0, show srC ad src (c_se a b 0) = ad (c_se a b 0) from vn _ (fun z => by simp at z), show srC ad src (c_se a b 1) = ad (c_se a b 1) from vn _ (fun z => by simp at z), show srC ad src (c_se a b 2) = ad (c_se a b 2) from vn _ (fun z => by simp at z), show srC ad src (c_pks a b) = ad (c_pks a b) from vn _ (fun z => by simp at z)]
    exact hsd
  · intro q x hl hm hT hx
    have n0 : q ≠ (15, a, b, 0) := fun z => by subst z; rw [m0] at hm; cases hm
    have hx : OkC s.c s.ow (srC ad src) x q := by
      refine OkC.congr2 (fun q9 hk => vn q9 (fun z => ?_)) hx
      · subst z
        obtain ⟨t, a', b', k'⟩ := q
        match t, hl, hT, hk, n0 with
        | 0, hl, hT, hk, n0 => simp [kidC] at hk
        | 1, hl, hT, hk, n0 => simp [kidC] at hk
        | 2, hl, hT, hk, n0 => simp [kidC] at hk
        | 3, hl, hT, hk, n0 => simp [kidC] at hk
        | 4, hl, hT, hk, n0 => simp [kidC] at hk
        | 5, hl, hT, hk, n0 => simp [kidC] at hk
        | 6, hl, hT, hk, n0 => simp [kidC] at hk
        | 7, hl, hT, hk, n0 => simp [kidC] at hk
        | 8, hl, hT, hk, n0 => simp [kidC] at hk
        | 9, hl, hT, hk, n0 => simp [kidC] at hk
        | 10, hl, hT, hk, n0 =>
          simp [kidC] at hk
          exact hT (by obtain ⟨_, _, h3⟩ := hl; obtain ⟨z1, z2⟩ := hk; subst z1; subst z2; subst h3; rfl)
        | 11, hl, hT, hk, n0 => simp [kidC] at hk
        | 12, hl, hT, hk, n0 => simp [kidC] at hk
        | 13, hl, hT, hk, n0 => simp [kidC] at hk
        | 14, hl, hT, hk, n0 => simp [kidC] at hk
        | 15, hl, hT, hk, n0 => simp [kidC] at hk
        | 16, hl, hT, hk, n0 => simp [kidC] at hk
        | 17, hl, hT, hk, n0 => simp [kidC] at hk
        | 18, hl, hT, hk, n0 => simp [kidC] at hk
        | 19, hl, hT, hk, n0 => simp [kidC] at hk
        | 20, hl, hT, hk, n0 => simp [kidC] at hk
        | 21, hl, hT, hk, n0 => simp [kidC] at hk
        | 22, hl, hT, hk, n0 => simp [kidC] at hk
        | 23, hl, hT, hk, n0 => simp [kidC] at hk
        | 24, hl, hT, hk, n0 => simp [kidC] at hk
        | 25, hl, hT, hk, n0 => simp [kidC] at hk
        | 26, hl, hT, hk, n0 => simp [kidC] at hk
        | n + 27, hl, hT, hk, n0 => exact hl.elim
    obtain ⟨t, a', b', k'⟩ := q
    match t, hl, hT, hx, n0 with
    | 0, hl, hT, hx, n0 => exact hx
    | 1, hl, hT, hx, n0 => exact hx
    | 2, hl, hT, hx, n0 => exact hx
    | 3, hl, hT, hx, n0 => exact hx
    | 4, hl, hT, hx, n0 => exact hx
    | 5, hl, hT, hx, n0 => exact hx
    | 6, hl, hT, hx, n0 => exact hx
    | 7, hl, hT, hx, n0 => exact hx
    | 8, hl, hT, hx, n0 => exact hx
    | 9, hl, hT, hx, n0 => exact hx
    | 10, hl, hT, hx, n0 =>
      have hx9 : ¬ (a' = a ∧ b' = b) := fun z => hT (by obtain ⟨_, _, h3⟩ := hl; obtain ⟨z1, z2⟩ := z; subst z1; subst z2; subst h3; rfl)
      show x = Option.some (.inr (2, [_, _, _, _, va_rf (oS (upd2 s.c.fl a b (Option.some z) a' b') _), _, _, _, _, _, _]))
      rw [upd2_n hx9]; exact hx
    | 11, hl, hT, hx, n0 => exact hx
    | 12, hl, hT, hx, n0 => exact hx
    | 13, hl, hT, hx, n0 => exact hx
    | 14, hl, hT, hx, n0 => exact hx
    | 15, hl, hT, hx, n0 =>
      have hx9 : ¬ (a' = a ∧ b' = b) := fun z => n0 (by obtain ⟨_, _, _, h3⟩ := hl; obtain ⟨z1, z2⟩ := z; subst z1; subst z2; subst h3; rfl)
      intro z9 hz9
      exact hx z9 ((upd2_n hx9).symm.trans hz9)
    | 16, hl, hT, hx, n0 => exact hx
    | 17, hl, hT, hx, n0 => exact hx
    | 18, hl, hT, hx, n0 => exact hx
    | 19, hl, hT, hx, n0 => exact hx
    | 20, hl, hT, hx, n0 => exact hx
    | 21, hl, hT, hx, n0 => exact hx
    | 22, hl, hT, hx, n0 => exact hx
    | 23, hl, hT, hx, n0 => exact hx
    | 24, hl, hT, hx, n0 => exact hx
    | 25, hl, hT, hx, n0 => exact hx
    | 26, hl, hT, hx, n0 => exact hx
    | n + 27, hl, hT, hx, n0 => exact hl.elim
theorem R.fl_none {A ad : Ro → Nat} {s : Wo} {w w' : Hp} {a b : Nat} (h : R A ad s w) (ha : a < 3) (hb : b < 3) (hsd : w' (ad (c_sd a b)) = Option.some (.inr (2, [.int (s.c.kn a b), va_rf (oS (s.c.se a b 0) (ad (c_se a b 0))), va_rf (oS (s.c.se a b 1) (ad (c_se a b 1))), va_rf (oS (s.c.se a b 2) (ad (c_se a b 2))), va_rf Option.none, .int (s.c.stT a b), .int (s.c.stS a b), .int (s.c.ck a b), .int (s.c.ckAt a b), rf (ad (c_pks a b)), .int (nI (s.c.nw a b))])))
    (hw : ∀ q, q ≠ ad (c_sd a b) → w' q = w q)
    (hro : ∀ a, w' a = Option.some roE → a = ad c_e) : R A (srC ad (fun q => .inl q)) ((s.s_c (s.c.s_fl (upd2 s.c.fl a b Option.none))).s_ow s.ow) w' := by
  obtain ⟨src, hsrc⟩ : ∃ z : Rq → Rq ⊕ Nat, z = fun q => .inl q := ⟨_, rfl⟩
  rw [← hsrc]
  have mn : ∀ q, src q = .inl q := by
    intro q 
    rw [hsrc]
  have vn : ∀ q, srC ad src (.inl q) = ad (.inl q) := fun q  => srC_o (mn q )
  refine h.genC2 (s.c.s_fl (upd2 s.c.fl a b Option.none)) s.ow src (fun q => q = (10, a, b, 0)) ?_ ?_ ?_ ?_ ?_ ?_ ?_ hro
  · intro q hq
    exact mn q 
  · intro q q0 hl e
    rw [mn q ] at e
    cases e
    obtain ⟨t, a', b', k'⟩ := q
    match t, hl with
    | 0, hl => exact hl
    | 1, hl => exact hl
    | 2, hl => exact hl
    | 3, hl => exact hl
    | 4, hl => exact hl
    | 5, hl => exact hl
    | 6, hl => exact hl
    | 7, hl => exact hl
    | 8, hl => exact hl
    | 9, hl => exact hl
    | 10, hl => exact hl
    | 11, hl => exact hl
    | 12, hl => exact hl
    | 13, hl => exact hl
    | 14, hl => exact hl
    | 15, hl =>
      obtain ⟨h1, h2, h3, h4⟩ := hl
      have h3 : (upd2 s.c.fl a b Option.none a' b').isSome = true := h3
      by_cases hx9 : a' = a ∧ b' = b
      · obtain ⟨z1, z2⟩ := hx9
        subst z1; subst z2; rw [upd2_s] at h3; cases h3
      · rw [upd2_n hx9] at h3; exact ⟨h1, h2, h3, h4⟩
    | 16, hl => exact hl
    | 17, hl => exact hl
    | 18, hl => exact hl
    | 19, hl => exact hl
    | 20, hl => exact hl
    | 21, hl => exact hl
    | 22, hl => exact hl
    | 23, hl => exact hl
    | 24, hl => exact hl
    | 25, hl => exact hl
    | 26, hl => exact hl
    | n + 27, hl => exact hl.elim
  · intro q g hl e r hr
    rw [mn q ] at e; cases e
  · intro q q' hl hl' e
    rw [mn q ] at e
    rw [mn q' ] at e
    exact Sum.inl.inj e
  · intro r hl hT
    exact hw _ (fun z => hT _ (h.inj _ _ hl (show Lv s (c_sd a b) from l_c_sd (s := s) ha hb) z) rfl) 
  · intro q hl hm
    rcases hm with hm | hm
    · exact absurd (mn q ) hm
    subst hm
    have e1 : ∀ q, srC ad src (.inl q) = ad (.inl q) := vn
    show w' (srC ad src (c_sd a b)) = Option.some (.inr (2, [.int (s.c.kn a b), va_rf (oS (s.c.se a b 0) (srC ad src (c_se a b 0))), va_rf (oS (s.c.se a b 1) (srC ad src (c_se a b 1))), va_rf (oS (s.c.se a b 2) (srC ad src (c_se a b 2))), va_rf (oS (upd2 s.c.fl a b Option.none a b) (srC ad src (c_fl a b))), .int (s.c.stT a b), .int (s.c.stS a b), .int (s.c.ck a b), .int (s.c.ckAt a b), rf (srC ad src (c_pks a b)), .int (nI (s.c.nw a b))]))
    rw [upd2_s]
    simp only [e1]
    exact hsd
  · intro q x hl hm hT hx
    have hx : OkC s.c s.ow (srC ad src) x q := by
      refine OkC.congr2 (fun q9 hk => vn q9 ) hx
    obtain ⟨t, a', b', k'⟩ := q
    match t, hl, hT, hx with
    | 0, hl, hT, hx => exact hx
    | 1, hl, hT, hx => exact hx
    | 2, hl, hT, hx => exact hx
    | 3, hl, hT, hx => exact hx
    | 4, hl, hT, hx => exact hx
    | 5, hl, hT, hx => exact hx
    | 6, hl, hT, hx => exact hx
    | 7, hl, hT, hx => exact hx
    | 8, hl, hT, hx => exact hx
    | 9, hl, hT, hx => exact hx
    | 10, hl, hT, hx =>
      have hx9 : ¬ (a' = a ∧ b' = b) := fun z => hT (by obtain ⟨_, _, h3⟩ := hl; obtain ⟨z1, z2⟩ := z; subst z1; subst z2; subst h3; rfl)
      show x = Option.some (.inr (2, [_, _, _, _, va_rf (oS (upd2 s.c.fl a b Option.none a' b') _), _, _, _, _, _, _]))
      rw [upd2_n hx9]; exact hx
    | 11, hl, hT, hx => exact hx
    | 12, hl, hT, hx => exact hx
    | 13, hl, hT, hx => exact hx
    | 14, hl, hT, hx => exact hx
    | 15, hl, hT, hx =>
      have hx9 : ¬ (a' = a ∧ b' = b) := fun z => by
        obtain ⟨_, _, h3, _⟩ := hl
        have h3 : (upd2 s.c.fl a b Option.none a' b').isSome = true := h3
        obtain ⟨z1, z2⟩ := z
        subst z1; subst z2; rw [upd2_s] at h3; cases h3
      intro z9 hz9
      exact hx z9 ((upd2_n hx9).symm.trans hz9)
    | 16, hl, hT, hx => exact hx
    | 17, hl, hT, hx => exact hx
    | 18, hl, hT, hx => exact hx
    | 19, hl, hT, hx => exact hx
    | 20, hl, hT, hx => exact hx
    | 21, hl, hT, hx => exact hx
    | 22, hl, hT, hx => exact hx
    | 23, hl, hT, hx => exact hx
    | 24, hl, hT, hx => exact hx
    | 25, hl, hT, hx => exact hx
    | 26, hl, hT, hx => exact hx
    | n + 27, hl, hT, hx => exact hl.elim
theorem R.se_next {A ad : Ro → Nat} {s : Wo} {w w' : Hp} {a b : Nat} {se' : Nat → Nat → Nat → Option Ses} {gS gN : Nat} {z : Ses} (h : R A ad s w) (ha : a < 3) (hb : b < 3) (aS : ∀ r, Lv s r → ad r ≠ gS) (aN : ∀ r, Lv s r → ad r ≠ gN) (hne : gS ≠ gN) (hS : w' gS = Option.some (.inr (6, [.int z.idx, .int z.oth, .int z.made, .int z.snd_, .int z.rcv, .int z.beg, rf gN, .int z.sl, .int z.top, .int z.took]))) (hN : w' gN = Option.some (aE 1 40 z.seen)) (h0 : se' a b 0 = s.c.se a b 0) (h1 : se' a b 1 = s.c.se a b 1) (h2 : se' a b 2 = Option.some z) (hoth : ∀ i j k, ¬ (i = a ∧ j = b) → se' i j k = s.c.se i j k) (hsd : w' (ad (c_sd a b)) = Option.some (.inr (2, [.int (s.c.kn a b), va_rf (oS (s.c.se a b 0) (ad (c_se a b 0))), va_rf (oS (s.c.se a b 1) (ad (c_se a b 1))), va_rf (Option.some gS), va_rf (oS (s.c.fl a b) (ad (c_fl a b))), .int (s.c.stT a b), .int (s.c.stS a b), .int (s.c.ck a b), .int (s.c.ckAt a b), rf (ad (c_pks a b)), .int (nI (s.c.nw a b))])))
    (hw : ∀ q, q ≠ ad (c_sd a b) → q ≠ gS → q ≠ gN → w' q = w q)
    (hro : ∀ a, w' a = Option.some roE → a = ad c_e) : R A (srC ad (fun q => if q = (13, a, b, 2) then .inr gS else if q = (14, a, b, 2) then .inr gN else .inl q)) ((s.s_c (s.c.s_se se')).s_ow s.ow) w' := by
  obtain ⟨src, hsrc⟩ : ∃ z : Rq → Rq ⊕ Nat, z = fun q => if q = (13, a, b, 2) then .inr gS else if q = (14, a, b, 2) then .inr gN else .inl q := ⟨_, rfl⟩
  rw [← hsrc]
  have m0 : src (13, a, b, 2) = .inr gS := by
    rw [hsrc]; show (if _ = _ then _ else _) = _
    rw [if_pos rfl]
  have m1 : src (14, a, b, 2) = .inr gN := by
    rw [hsrc]; show (if _ = _ then _ else _) = _
    rw [if_neg (fun z => by simp at z)]
    rw [if_pos rfl]
  have mn : ∀ q, q ≠ (13, a, b, 2) → q ≠ (14, a, b, 2) → src q = .inl q := by
    intro q n0 n1
    rw [hsrc]
    show (if _ = _ then _ else _) = _
    rw [if_neg n0, if_neg n1]
  have v0 : srC ad src (c_se a b 2) = gS := srC_n m0
  have v1 : srC ad src (c_sn a b 2) = gN := srC_n m1
  have vn : ∀ q, q ≠ (13, a, b, 2) → q ≠ (14, a, b, 2) → srC ad src (.inl q) = ad (.inl q) := fun q n0 n1 => srC_o (mn q n0 n1)
  refine h.genC2 (s.c.s_se se') s.ow src (fun q => q = (10, a, b, 0)) ?_ ?_ ?_ ?_ ?_ ?_ ?_ hro
  · intro q hq
    exact mn q (fun z => by subst z; exact absurd (show false = true from hq) (by decide)) (fun z => by subst z; exact absurd (show false = true from hq) (by decide))
  · intro q q0 hl e
    by_cases n0 : q = (13, a, b, 2)
    · subst n0; rw [m0] at e
      cases e
    by_cases n1 : q = (14, a, b, 2)
    · subst n1; rw [m1] at e
      cases e
    rw [mn q n0 n1] at e
    cases e
    obtain ⟨t, a', b', k'⟩ := q
    match t, hl, n0, n1 with
    | 0, hl, n0, n1 => exact hl
    | 1, hl, n0, n1 => exact hl
    | 2, hl, n0, n1 => exact hl
    | 3, hl, n0, n1 => exact hl
    | 4, hl, n0, n1 => exact hl
    | 5, hl, n0, n1 => exact hl
    | 6, hl, n0, n1 => exact hl
    | 7, hl, n0, n1 => exact hl
    | 8, hl, n0, n1 => exact hl
    | 9, hl, n0, n1 => exact hl
    | 10, hl, n0, n1 => exact hl
    | 11, hl, n0, n1 => exact hl
    | 12, hl, n0, n1 => exact hl
    | 13, hl, n0, n1 =>
      have kq : ∀ z9, se' a' b' k' = Option.some z9 → s.c.se a' b' k' = Option.some z9 := by
        intro z9 hz9
        by_cases hab : a' = a ∧ b' = b
        · obtain ⟨z1, z2⟩ := hab
          subst z1; subst z2
          have hk8 : k' < 3 := hl.2.2.1
          have hk9 : k' = 0 ∨ k' = 1 ∨ k' = 2 := by omega
          rcases hk9 with z3 | z3 | z3 <;> subst z3
          · first | exact absurd rfl n0 | exact absurd rfl n1 | (rw [h0] at hz9; exact hz9) | (rw [h0] at hz9; cases hz9)
          · first | exact absurd rfl n0 | exact absurd rfl n1 | (rw [h1] at hz9; exact hz9) | (rw [h1] at hz9; cases hz9)
          · first | exact absurd rfl n0 | exact absurd rfl n1 | (rw [h2] at hz9; exact hz9) | (rw [h2] at hz9; cases hz9)
        · rw [hoth _ _ _ hab] at hz9; exact hz9
      obtain ⟨z9, hz9⟩ := Option.isSome_iff_exists.mp (show (se' a' b' k').isSome = true from hl.2.2.2)
      exact ⟨hl.1, hl.2.1, hl.2.2.1, by rw [kq z9 hz9]; rfl⟩
    | 14, hl, n0, n1 =>
      have kq : ∀ z9, se' a' b' k' = Option.some z9 → s.c.se a' b' k' = Option.some z9 := by
        intro z9 hz9
        by_cases hab : a' = a ∧ b' = b
        · obtain ⟨z1, z2⟩ := hab
          subst z1; subst z2
          have hk8 : k' < 3 := hl.2.2.1
          have hk9 : k' = 0 ∨ k' = 1 ∨ k' = 2 := by omega
          rcases hk9 with z3 | z3 | z3 <;> subst z3
          · first | exact absurd rfl n0 | exact absurd rfl n1 | (rw [h0] at hz9; exact hz9) | (rw [h0] at hz9; cases hz9)
          · first | exact absurd rfl n0 | exact absurd rfl n1 | (rw [h1] at hz9; exact hz9) | (rw [h1] at hz9; cases hz9)
          · first | exact absurd rfl n0 | exact absurd rfl n1 | (rw [h2] at hz9; exact hz9) | (rw [h2] at hz9; cases hz9)
        · rw [hoth _ _ _ hab] at hz9; exact hz9
      obtain ⟨z9, hz9⟩ := Option.isSome_iff_exists.mp (show (se' a' b' k').isSome = true from hl.2.2.2)
      exact ⟨hl.1, hl.2.1, hl.2.2.1, by rw [kq z9 hz9]; rfl⟩
    | 15, hl, n0, n1 => exact hl
    | 16, hl, n0, n1 => exact hl
    | 17, hl, n0, n1 => exact hl
    | 18, hl, n0, n1 => exact hl
    | 19, hl, n0, n1 => exact hl
    | 20, hl, n0, n1 => exact hl
    | 21, hl, n0, n1 => exact hl
    | 22, hl, n0, n1 => exact hl
    | 23, hl, n0, n1 => exact hl
    | 24, hl, n0, n1 => exact hl
    | 25, hl, n0, n1 => exact hl
    | 26, hl, n0, n1 => exact hl
    | n + 27, hl, n0, n1 => exact hl.elim
  · intro q g hl e r hr
    by_cases n0 : q = (13, a, b, 2)
    · subst n0; rw [m0] at e; cases e; exact aS r hr
    by_cases n1 : q = (14, a, b, 2)
    · subst n1; rw [m1] at e; cases e; exact aN r hr
    rw [mn q n0 n1] at e; cases e
  · intro q q' hl hl' e
    by_cases n0 : q = (13, a, b, 2)
    · subst n0; rw [m0] at e
      by_cases p0 : q' = (13, a, b, 2)
      · exact p0.symm
      by_cases p1 : q' = (14, a, b, 2)
      · subst p1; rw [m1] at e; first | exact absurd (Sum.inr.inj e) hne | exact absurd (Sum.inr.inj e).symm hne
      rw [mn q' p0 p1] at e
      cases e
    by_cases n1 : q = (14, a, b, 2)
    · subst n1; rw [m1] at e
      by_cases p0 : q' = (13, a, b, 2)
      · subst p0; rw [m0] at e; first | exact absurd (Sum.inr.inj e) hne | exact absurd (Sum.inr.inj e).symm hne
      by_cases p1 : q' = (14, a, b, 2)
      · exact p1.symm
      rw [mn q' p0 p1] at e
      cases e
    rw [mn q n0 n1] at e
    by_cases p0 : q' = (13, a, b, 2)
    · subst p0; rw [m0] at e; cases e
    by_cases p1 : q' = (14, a, b, 2)
    · subst p1; rw [m1] at e; cases e
    rw [mn q' p0 p1] at e
    exact Sum.inl.inj e
  · intro r hl hT
    exact hw _ (fun z => hT _ (h.inj _ _ hl (show Lv s (c_sd a b) from l_c_sd (s := s) ha hb) z) rfl) (aS r hl) (aN r hl)
  · intro q hl hm
    by_cases n0 : q = (13, a, b, 2)
    · subst n0
      intro z9 hz9
      have h9 : z9 = z := Option.some.inj (hz9.symm.trans h2)
      subst h9
      show w' (srC ad src (c_se a b 2)) = Option.some (.inr (6, [.int z9.idx, .int z9.oth, .int z9.made, .int z9.snd_, .int z9.rcv, .int z9.beg, rf (srC ad src (c_sn a b 2)), .int z9.sl, .int z9.top, .int z9.took]))
      rw [v0, v1]; exact hS
    by_cases n1 : q = (14, a, b, 2)
    · subst n1
      intro z9 hz9
      have h9 : z9 = z := Option.some.inj (hz9.symm.trans h2)
      subst h9
      show w' (srC ad src (c_sn a b 2)) = _
      rw [v1]; exact hN
    rcases hm with hm | hm
    · exact absurd (mn q n0 n1) hm
    subst hm
    have e1 : srC ad src (c_sd a b) = ad (c_sd a b) := vn (10, a, b, 0) (fun z => by simp at z) (fun z => by simp at z)
    have e2 : srC ad src (c_fl a b) = ad (c_fl a b) := vn (15, a, b, 0) (fun z => by simp at z) (fun z => by simp at z)
    have e3 : srC ad src (c_pks a b) = ad (c_pks a b) := vn (11, a, b, 0) (fun z => by simp at z) (fun z => by simp at z)
    have f0 : oS (se' a b 0) (srC ad src (c_se a b 0)) = (oS (s.c.se a b 0) (ad (c_se a b 0))) := by rw [h0, show srC ad src (c_se a b 0) = ad (c_se a b 0) from vn (13, a, b, 0) (fun z => by simp at z) (fun z => by simp at z)]
    have f1 : oS (se' a b 1) (srC ad src (c_se a b 1)) = (oS (s.c.se a b 1) (ad (c_se a b 1))) := by rw [h1, show srC ad src (c_se a b 1) = ad (c_se a b 1) from vn (13, a, b, 1) (fun z => by simp at z) (fun z => by simp at z)]
    have f2 : oS (se' a b 2) (srC ad src (c_se a b 2)) = Option.some gS := by rw [h2, v0]; rfl
    show w' (srC ad src (c_sd a b)) = Option.some (.inr (2, [.int (s.c.kn a b), va_rf (oS (se' a b 0) (srC ad src (c_se a b 0))), va_rf (oS (se' a b 1) (srC ad src (c_se a b 1))), va_rf (oS (se' a b 2) (srC ad src (c_se a b 2))), va_rf (oS (s.c.fl a b) (srC ad src (c_fl a b))), .int (s.c.stT a b), .int (s.c.stS a b), .int (s.c.ck a b), .int (s.c.ckAt a b), rf (srC ad src (c_pks a b)), .int (nI (s.c.nw a b))]))
    rw [f0, f1, f2, e1, e2, e3]
    exact hsd
  · intro q x hl hm hT hx
    have n0 : q ≠ (13, a, b, 2) := fun z => by subst z; rw [m0] at hm; cases hm
    have n1 : q ≠ (14, a, b, 2) := fun z => by subst z; rw [m1] at hm; cases hm
    have hx : OkC s.c s.ow (srC ad src) x q := by
      refine OkC.congr2 (fun q9 hk => vn q9 (fun z => ?_) (fun z => ?_)) hx
      · subst z
        obtain ⟨t, a', b', k'⟩ := q
        match t, hl, hT, hk, n0, n1 with
        | 0, hl, hT, hk, n0, n1 => simp [kidC] at hk
        | 1, hl, hT, hk, n0, n1 => simp [kidC] at hk
        | 2, hl, hT, hk, n0, n1 => simp [kidC] at hk
        | 3, hl, hT, hk, n0, n1 => simp [kidC] at hk
        | 4, hl, hT, hk, n0, n1 => simp [kidC] at hk
        | 5, hl, hT, hk, n0, n1 => simp [kidC] at hk
        | 6, hl, hT, hk, n0, n1 => simp [kidC] at hk
        | 7, hl, hT, hk, n0, n1 => simp [kidC] at hk
        | 8, hl, hT, hk, n0, n1 => simp [kidC] at hk
        | 9, hl, hT, hk, n0, n1 => simp [kidC] at hk
        | 10, hl, hT, hk, n0, n1 =>
          have h9 : a' = a ∧ b' = b := by
            simp [kidC] at hk
            first | exact hk | (obtain ⟨z1, z2⟩ := hk; exact ⟨z1.symm, z2.symm⟩)
          obtain ⟨z1, z2⟩ := h9
          exact hT (by obtain ⟨_, _, h3⟩ := hl; subst z1; subst z2; subst h3; rfl)
        | 11, hl, hT, hk, n0, n1 => simp [kidC] at hk
        | 12, hl, hT, hk, n0, n1 => simp [kidC] at hk
        | 13, hl, hT, hk, n0, n1 => simp [kidC] at hk
        | 14, hl, hT, hk, n0, n1 => simp [kidC] at hk
        | 15, hl, hT, hk, n0, n1 => simp [kidC] at hk
        | 16, hl, hT, hk, n0, n1 => simp [kidC] at hk
        | 17, hl, hT, hk, n0, n1 => simp [kidC] at hk
        | 18, hl, hT, hk, n0, n1 => simp [kidC] at hk
        | 19, hl, hT, hk, n0, n1 => simp [kidC] at hk
        | 20, hl, hT, hk, n0, n1 => simp [kidC] at hk
        | 21, hl, hT, hk, n0, n1 => simp [kidC] at hk
        | 22, hl, hT, hk, n0, n1 => simp [kidC] at hk
        | 23, hl, hT, hk, n0, n1 => simp [kidC] at hk
        | 24, hl, hT, hk, n0, n1 => simp [kidC] at hk
        | 25, hl, hT, hk, n0, n1 => simp [kidC] at hk
        | 26, hl, hT, hk, n0, n1 => simp [kidC] at hk
        | n + 27, hl, hT, hk, n0, n1 => exact hl.elim
      · subst z
        obtain ⟨t, a', b', k'⟩ := q
        match t, hl, hT, hk, n0, n1 with
        | 0, hl, hT, hk, n0, n1 => simp [kidC] at hk
        | 1, hl, hT, hk, n0, n1 => simp [kidC] at hk
        | 2, hl, hT, hk, n0, n1 => simp [kidC] at hk
        | 3, hl, hT, hk, n0, n1 => simp [kidC] at hk
        | 4, hl, hT, hk, n0, n1 => simp [kidC] at hk
        | 5, hl, hT, hk, n0, n1 => simp [kidC] at hk
        | 6, hl, hT, hk, n0, n1 => simp [kidC] at hk
        | 7, hl, hT, hk, n0, n1 => simp [kidC] at hk
        | 8, hl, hT, hk, n0, n1 => simp [kidC] at hk
        | 9, hl, hT, hk, n0, n1 => simp [kidC] at hk
        | 10, hl, hT, hk, n0, n1 => simp [kidC] at hk
        | 11, hl, hT, hk, n0, n1 => simp [kidC] at hk
        | 12, hl, hT, hk, n0, n1 => simp [kidC] at hk
        | 13, hl, hT, hk, n0, n1 => first | (simp [kidC] at hk; done) | (have h9 : a' = a ∧ b' = b ∧ k' = 2 := (by simpa [kidC, eq_comm] using hk); obtain ⟨z1, z2, z3⟩ := h9; subst z1; subst z2; subst z3; exact n0 rfl)
        | 14, hl, hT, hk, n0, n1 => simp [kidC] at hk
        | 15, hl, hT, hk, n0, n1 => simp [kidC] at hk
        | 16, hl, hT, hk, n0, n1 => simp [kidC] at hk
        | 17, hl, hT, hk, n0, n1 => simp [kidC] at hk
        | 18, hl, hT, hk, n0, n1 => simp [kidC] at hk
        | 19, hl, hT, hk, n0, n1 => simp [kidC] at hk
        | 20, hl, hT, hk, n0, n1 => simp [kidC] at hk
        | 21, hl, hT, hk, n0, n1 => simp [kidC] at hk
        | 22, hl, hT, hk, n0, n1 => simp [kidC] at hk
        | 23, hl, hT, hk, n0, n1 => simp [kidC] at hk
        | 24, hl, hT, hk, n0, n1 => simp [kidC] at hk
        | 25, hl, hT, hk, n0, n1 => simp [kidC] at hk
        | 26, hl, hT, hk, n0, n1 => simp [kidC] at hk
        | n + 27, hl, hT, hk, n0, n1 => exact hl.elim
    obtain ⟨t, a', b', k'⟩ := q
    match t, hl, hT, hx, n0, n1 with
    | 0, hl, hT, hx, n0, n1 => exact hx
    | 1, hl, hT, hx, n0, n1 => exact hx
    | 2, hl, hT, hx, n0, n1 => exact hx
    | 3, hl, hT, hx, n0, n1 => exact hx
    | 4, hl, hT, hx, n0, n1 => exact hx
    | 5, hl, hT, hx, n0, n1 => exact hx
    | 6, hl, hT, hx, n0, n1 => exact hx
    | 7, hl, hT, hx, n0, n1 => exact hx
    | 8, hl, hT, hx, n0, n1 => exact hx
    | 9, hl, hT, hx, n0, n1 => exact hx
    | 10, hl, hT, hx, n0, n1 =>
      have hx9 : ¬ (a' = a ∧ b' = b) := fun z => hT (by obtain ⟨_, _, h3⟩ := hl; obtain ⟨z1, z2⟩ := z; subst z1; subst z2; subst h3; rfl)
      show x = Option.some (.inr (2, [_, va_rf (oS (se' a' b' 0) _), va_rf (oS (se' a' b' 1) _), va_rf (oS (se' a' b' 2) _), _, _, _, _, _, _, _]))
      rw [hoth _ _ _ hx9, hoth _ _ _ hx9, hoth _ _ _ hx9]; exact hx
    | 11, hl, hT, hx, n0, n1 => exact hx
    | 12, hl, hT, hx, n0, n1 => exact hx
    | 13, hl, hT, hx, n0, n1 =>
      have kq : ∀ z9, se' a' b' k' = Option.some z9 → s.c.se a' b' k' = Option.some z9 := by
        intro z9 hz9
        by_cases hab : a' = a ∧ b' = b
        · obtain ⟨z1, z2⟩ := hab
          subst z1; subst z2
          have hk8 : k' < 3 := hl.2.2.1
          have hk9 : k' = 0 ∨ k' = 1 ∨ k' = 2 := by omega
          rcases hk9 with z3 | z3 | z3 <;> subst z3
          · first | exact absurd rfl n0 | exact absurd rfl n1 | (rw [h0] at hz9; exact hz9) | (rw [h0] at hz9; cases hz9)
          · first | exact absurd rfl n0 | exact absurd rfl n1 | (rw [h1] at hz9; exact hz9) | (rw [h1] at hz9; cases hz9)
          · first | exact absurd rfl n0 | exact absurd rfl n1 | (rw [h2] at hz9; exact hz9) | (rw [h2] at hz9; cases hz9)
        · rw [hoth _ _ _ hab] at hz9; exact hz9
      intro z9 hz9
      exact hx z9 (kq z9 hz9)
    | 14, hl, hT, hx, n0, n1 =>
      have kq : ∀ z9, se' a' b' k' = Option.some z9 → s.c.se a' b' k' = Option.some z9 := by
        intro z9 hz9
        by_cases hab : a' = a ∧ b' = b
        · obtain ⟨z1, z2⟩ := hab
          subst z1; subst z2
          have hk8 : k' < 3 := hl.2.2.1
          have hk9 : k' = 0 ∨ k' = 1 ∨ k' = 2 := by omega
          rcases hk9 with z3 | z3 | z3 <;> subst z3
          · first | exact absurd rfl n0 | exact absurd rfl n1 | (rw [h0] at hz9; exact hz9) | (rw [h0] at hz9; cases hz9)
          · first | exact absurd rfl n0 | exact absurd rfl n1 | (rw [h1] at hz9; exact hz9) | (rw [h1] at hz9; cases hz9)
          · first | exact absurd rfl n0 | exact absurd rfl n1 | (rw [h2] at hz9; exact hz9) | (rw [h2] at hz9; cases hz9)
        · rw [hoth _ _ _ hab] at hz9; exact hz9
      intro z9 hz9
      exact hx z9 (kq z9 hz9)
    | 15, hl, hT, hx, n0, n1 => exact hx
    | 16, hl, hT, hx, n0, n1 => exact hx
    | 17, hl, hT, hx, n0, n1 => exact hx
    | 18, hl, hT, hx, n0, n1 => exact hx
    | 19, hl, hT, hx, n0, n1 => exact hx
    | 20, hl, hT, hx, n0, n1 => exact hx
    | 21, hl, hT, hx, n0, n1 => exact hx
    | 22, hl, hT, hx, n0, n1 => exact hx
    | 23, hl, hT, hx, n0, n1 => exact hx
    | 24, hl, hT, hx, n0, n1 => exact hx
    | 25, hl, hT, hx, n0, n1 => exact hx
    | 26, hl, hT, hx, n0, n1 => exact hx
    | n + 27, hl, hT, hx, n0, n1 => exact hl.elim
theorem R.se_reply {A ad : Ro → Nat} {s : Wo} {w w' : Hp} {a b : Nat} {se' : Nat → Nat → Nat → Option Ses} {gS gN : Nat} {z : Ses} (h : R A ad s w) (ha : a < 3) (hb : b < 3) (aS : ∀ r, Lv s r → ad r ≠ gS) (aN : ∀ r, Lv s r → ad r ≠ gN) (hne : gS ≠ gN) (hS : w' gS = Option.some (.inr (6, [.int z.idx, .int z.oth, .int z.made, .int z.snd_, .int z.rcv, .int z.beg, rf gN, .int z.sl, .int z.top, .int z.took]))) (hN : w' gN = Option.some (aE 1 40 z.seen)) (h0 : se' a b 0 = s.c.se a b 1) (h1 : se' a b 1 = Option.some z) (h2 : se' a b 2 = s.c.se a b 2) (hoth : ∀ i j k, ¬ (i = a ∧ j = b) → se' i j k = s.c.se i j k) (hsd : w' (ad (c_sd a b)) = Option.some (.inr (2, [.int (s.c.kn a b), va_rf (oS (s.c.se a b 1) (ad (c_se a b 1))), va_rf (Option.some gS), va_rf (oS (s.c.se a b 2) (ad (c_se a b 2))), va_rf (oS (s.c.fl a b) (ad (c_fl a b))), .int (s.c.stT a b), .int (s.c.stS a b), .int (s.c.ck a b), .int (s.c.ckAt a b), rf (ad (c_pks a b)), .int (nI (s.c.nw a b))])))
    (hw : ∀ q, q ≠ ad (c_sd a b) → q ≠ gS → q ≠ gN → w' q = w q)
    (hro : ∀ a, w' a = Option.some roE → a = ad c_e) : R A (srC ad (fun q => if q = (13, a, b, 0) then .inl (13, a, b, 1) else if q = (14, a, b, 0) then .inl (14, a, b, 1) else if q = (13, a, b, 1) then .inr gS else if q = (14, a, b, 1) then .inr gN else .inl q)) ((s.s_c (s.c.s_se se')).s_ow s.ow) w' := by
  obtain ⟨src, hsrc⟩ : ∃ z : Rq → Rq ⊕ Nat, z = fun q => if q = (13, a, b, 0) then .inl (13, a, b, 1) else if q = (14, a, b, 0) then .inl (14, a, b, 1) else if q = (13, a, b, 1) then .inr gS else if q = (14, a, b, 1) then .inr gN else .inl q := ⟨_, rfl⟩
  rw [← hsrc]
  have m0 : src (13, a, b, 0) = .inl (13, a, b, 1) := by
    rw [hsrc]; show (if _ = _ then _ else _) = _
    rw [if_pos rfl]
  have m1 : src (14, a, b, 0) = .inl (14, a, b, 1) := by
    rw [hsrc]; show (if _ = _ then _ else _) = _
    rw [if_neg (fun z => by simp at z)]
    rw [if_pos rfl]
  have m2 : src (13, a, b, 1) = .inr gS := by
    rw [hsrc]; show (if _ = _ then _ else _) = _
    rw [if_neg (fun z => by simp at z)]
    rw [if_neg (fun z => by simp at z)]
    rw [if_pos rfl]
  have m3 : src (14, a, b, 1) = .inr gN := by
    rw [hsrc]; show (if _ = _ then _ else _) = _
    rw [if_neg (fun z => by simp at z)]
    rw [if_neg (fun z => by simp at z)]
    rw [if_neg (fun z => by simp at z)]
    rw [if_pos rfl]
  have mn : ∀ q, q ≠ (13, a, b, 0) → q ≠ (14, a, b, 0) → q ≠ (13, a, b, 1) → q ≠ (14, a, b, 1) → src q = .inl q := by
    intro q n0 n1 n2 n3
    rw [hsrc]
    show (if _ = _ then _ else _) = _
    rw [if_neg n0, if_neg n1, if_neg n2, if_neg n3]
  have v0 : srC ad src (c_se a b 0) = ad (c_se a b 1) := srC_o m0
  have v1 : srC ad src (c_sn a b 0) = ad (c_sn a b 1) := srC_o m1
  have v2 : srC ad src (c_se a b 1) = gS := srC_n m2
  have v3 : srC ad src (c_sn a b 1) = gN := srC_n m3
  have vn : ∀ q, q ≠ (13, a, b, 0) → q ≠ (14, a, b, 0) → q ≠ (13, a, b, 1) → q ≠ (14, a, b, 1) → srC ad src (.inl q) = ad (.inl q) := fun q n0 n1 n2 n3 => srC_o (mn q n0 n1 n2 n3)
  refine h.genC2 (s.c.s_se se') s.ow src (fun q => q = (10, a, b, 0)) ?_ ?_ ?_ ?_ ?_ ?_ ?_ hro
  · intro q hq
    exact mn q (fun z => by subst z; exact absurd (show false = true from hq) (by decide)) (fun z => by subst z; exact absurd (show false = true from hq) (by decide)) (fun z => by subst z; exact absurd (show false = true from hq) (by decide)) (fun z => by subst z; exact absurd (show false = true from hq) (by decide))
  · intro q q0 hl e
    by_cases n0 : q = (13, a, b, 0)
    · subst n0; rw [m0] at e
      cases e; exact ⟨ha, hb, (show 1 < 3 by decide), by have h9 := hl.2.2.2; rwa [show (s.c.s_se se').se a b 0 = s.c.se a b 1 from h0] at h9⟩
    by_cases n1 : q = (14, a, b, 0)
    · subst n1; rw [m1] at e
      cases e; exact ⟨ha, hb, (show 1 < 3 by decide), by have h9 := hl.2.2.2; rwa [show (s.c.s_se se').se a b 0 = s.c.se a b 1 from h0] at h9⟩
    by_cases n2 : q = (13, a, b, 1)
    · subst n2; rw [m2] at e
      cases e
    by_cases n3 : q = (14, a, b, 1)
    · subst n3; rw [m3] at e
      cases e
    rw [mn q n0 n1 n2 n3] at e
    cases e
    obtain ⟨t, a', b', k'⟩ := q
    match t, hl, n0, n1, n2, n3 with
    | 0, hl, n0, n1, n2, n3 => exact hl
    | 1, hl, n0, n1, n2, n3 => exact hl
    | 2, hl, n0, n1, n2, n3 => exact hl
    | 3, hl, n0, n1, n2, n3 => exact hl
    | 4, hl, n0, n1, n2, n3 => exact hl
    | 5, hl, n0, n1, n2, n3 => exact hl
    | 6, hl, n0, n1, n2, n3 => exact hl
    | 7, hl, n0, n1, n2, n3 => exact hl
    | 8, hl, n0, n1, n2, n3 => exact hl
    | 9, hl, n0, n1, n2, n3 => exact hl
    | 10, hl, n0, n1, n2, n3 => exact hl
    | 11, hl, n0, n1, n2, n3 => exact hl
    | 12, hl, n0, n1, n2, n3 => exact hl
    | 13, hl, n0, n1, n2, n3 =>
      have kq : ∀ z9, se' a' b' k' = Option.some z9 → s.c.se a' b' k' = Option.some z9 := by
        intro z9 hz9
        by_cases hab : a' = a ∧ b' = b
        · obtain ⟨z1, z2⟩ := hab
          subst z1; subst z2
          have hk8 : k' < 3 := hl.2.2.1
          have hk9 : k' = 0 ∨ k' = 1 ∨ k' = 2 := by omega
          rcases hk9 with z3 | z3 | z3 <;> subst z3
          · first | exact absurd rfl n0 | exact absurd rfl n1 | exact absurd rfl n2 | exact absurd rfl n3 | (rw [h0] at hz9; exact hz9) | (rw [h0] at hz9; cases hz9)
          · first | exact absurd rfl n0 | exact absurd rfl n1 | exact absurd rfl n2 | exact absurd rfl n3 | (rw [h1] at hz9; exact hz9) | (rw [h1] at hz9; cases hz9)
          · first | exact absurd rfl n0 | exact absurd rfl n1 | exact absurd rfl n2 | exact absurd rfl n3 | (rw [h2] at hz9; exact hz9) | (rw [h2] at hz9; cases hz9)
        · rw [hoth _ _ _ hab] at hz9; exact hz9
      obtain ⟨z9, hz9⟩ := Option.isSome_iff_exists.mp (show (se' a' b' k').isSome = true from hl.2.2.2)
      exact ⟨hl.1, hl.2.1, hl.2.2.1, by rw [kq z9 hz9]; rfl⟩
    | 14, hl, n0, n1, n2, n3 =>
      have kq : ∀ z9, se' a' b' k' = Option.some z9 → s.c.se a' b' k' = Option.some z9 := by
        intro z9 hz9
        by_cases hab : a' = a ∧ b' = b
        · obtain ⟨z1, z2⟩ := hab
          subst z1; subst z2
          have hk8 : k' < 3 := hl.2.2.1
          have hk9 : k' = 0 ∨ k' = 1 ∨ k' = 2 := by omega
          rcases hk9 with z3 | z3 | z3 <;> subst z3
          · first | exact absurd rfl n0 | exact absurd rfl n1 | exact absurd rfl n2 | exact absurd rfl n3 | (rw [h0] at hz9; exact hz9) | (rw [h0] at hz9; cases hz9)
          · first | exact absurd rfl n0 | exact absurd rfl n1 | exact absurd rfl n2 | exact absurd rfl n3 | (rw [h1] at hz9; exact hz9) | (rw [h1] at hz9; cases hz9)
          · first | exact absurd rfl n0 | exact absurd rfl n1 | exact absurd rfl n2 | exact absurd rfl n3 | (rw [h2] at hz9; exact hz9) | (rw [h2] at hz9; cases hz9)
        · rw [hoth _ _ _ hab] at hz9; exact hz9
      obtain ⟨z9, hz9⟩ := Option.isSome_iff_exists.mp (show (se' a' b' k').isSome = true from hl.2.2.2)
      exact ⟨hl.1, hl.2.1, hl.2.2.1, by rw [kq z9 hz9]; rfl⟩
    | 15, hl, n0, n1, n2, n3 => exact hl
    | 16, hl, n0, n1, n2, n3 => exact hl
    | 17, hl, n0, n1, n2, n3 => exact hl
    | 18, hl, n0, n1, n2, n3 => exact hl
    | 19, hl, n0, n1, n2, n3 => exact hl
    | 20, hl, n0, n1, n2, n3 => exact hl
    | 21, hl, n0, n1, n2, n3 => exact hl
    | 22, hl, n0, n1, n2, n3 => exact hl
    | 23, hl, n0, n1, n2, n3 => exact hl
    | 24, hl, n0, n1, n2, n3 => exact hl
    | 25, hl, n0, n1, n2, n3 => exact hl
    | 26, hl, n0, n1, n2, n3 => exact hl
    | n + 27, hl, n0, n1, n2, n3 => exact hl.elim
  · intro q g hl e r hr
    by_cases n0 : q = (13, a, b, 0)
    · subst n0; rw [m0] at e; cases e
    by_cases n1 : q = (14, a, b, 0)
    · subst n1; rw [m1] at e; cases e
    by_cases n2 : q = (13, a, b, 1)
    · subst n2; rw [m2] at e; cases e; exact aS r hr
    by_cases n3 : q = (14, a, b, 1)
    · subst n3; rw [m3] at e; cases e; exact aN r hr
    rw [mn q n0 n1 n2 n3] at e; cases e
  · intro q q' hl hl' e
    by_cases n0 : q = (13, a, b, 0)
    · subst n0; rw [m0] at e
      by_cases p0 : q' = (13, a, b, 0)
      · exact p0.symm
      by_cases p1 : q' = (14, a, b, 0)
      · subst p1; rw [m1] at e; simp at e
      by_cases p2 : q' = (13, a, b, 1)
      · subst p2; rw [m2] at e; cases e
      by_cases p3 : q' = (14, a, b, 1)
      · subst p3; rw [m3] at e; cases e
      rw [mn q' p0 p1 p2 p3] at e
      cases e; first | exact absurd rfl p0 | exact absurd rfl p1 | exact absurd rfl p2 | exact absurd rfl p3
    by_cases n1 : q = (14, a, b, 0)
    · subst n1; rw [m1] at e
      by_cases p0 : q' = (13, a, b, 0)
      · subst p0; rw [m0] at e; simp at e
      by_cases p1 : q' = (14, a, b, 0)
      · exact p1.symm
      by_cases p2 : q' = (13, a, b, 1)
      · subst p2; rw [m2] at e; cases e
      by_cases p3 : q' = (14, a, b, 1)
      · subst p3; rw [m3] at e; cases e
      rw [mn q' p0 p1 p2 p3] at e
      cases e; first | exact absurd rfl p0 | exact absurd rfl p1 | exact absurd rfl p2 | exact absurd rfl p3
    by_cases n2 : q = (13, a, b, 1)
    · subst n2; rw [m2] at e
      by_cases p0 : q' = (13, a, b, 0)
      · subst p0; rw [m0] at e; cases e
      by_cases p1 : q' = (14, a, b, 0)
      · subst p1; rw [m1] at e; cases e
      by_cases p2 : q' = (13, a, b, 1)
      · exact p2.symm
      by_cases p3 : q' = (14, a, b, 1)
      · subst p3; rw [m3] at e; first | exact absurd (Sum.inr.inj e) hne | exact absurd (Sum.inr.inj e).symm hne
      rw [mn q' p0 p1 p2 p3] at e
      cases e
    by_cases n3 : q = (14, a, b, 1)
    · subst n3; rw [m3] at e
      by_cases p0 : q' = (13, a, b, 0)
      · subst p0; rw [m0] at e; cases e
      by_cases p1 : q' = (14, a, b, 0)
      · subst p1; rw [m1] at e; cases e
      by_cases p2 : q' = (13, a, b, 1)
      · subst p2; rw [m2] at e; first | exact absurd (Sum.inr.inj e) hne | exact absurd (Sum.inr.inj e).symm hne
      by_cases p3 : q' = (14, a, b, 1)
      · exact p3.symm
      rw [mn q' p0 p1 p2 p3] at e
      cases e
    rw [mn q n0 n1 n2 n3] at e
    by_cases p0 : q' = (13, a, b, 0)
    · subst p0; rw [m0] at e; cases e; first | exact absurd rfl n0 | exact absurd rfl n1 | exact absurd rfl n2 | exact absurd rfl n3
    by_cases p1 : q' = (14, a, b, 0)
    · subst p1; rw [m1] at e; cases e; first | exact absurd rfl n0 | exact absurd rfl n1 | exact absurd rfl n2 | exact absurd rfl n3
    by_cases p2 : q' = (13, a, b, 1)
    · subst p2; rw [m2] at e; cases e
    by_cases p3 : q' = (14, a, b, 1)
    · subst p3; rw [m3] at e; cases e
    rw [mn q' p0 p1 p2 p3] at e
    exact Sum.inl.inj e
  · intro r hl hT
    exact hw _ (fun z => hT _ (h.inj _ _ hl (show Lv s (c_sd a b) from l_c_sd (s := s) ha hb) z) rfl) (aS r hl) (aN r hl)
  · intro q hl hm
    by_cases n0 : q = (13, a, b, 0)
    · subst n0
      intro z9 hz9
      have h9 : s.c.se a b 1 = Option.some z9 := h0.symm.trans hz9
      have hl9 : Lv s (c_se a b 1) := ⟨ha, hb, (show 1 < 3 by decide), by rw [h9]; rfl⟩
      have hww : w' (ad (c_se a b 1)) = w (ad (c_se a b 1)) := hw _ (fun z => by cases h.inj _ _ hl9 (l_c_sd (s := s) ha hb) z) (aS _ (show Lv s (c_se a b 1) from hl9)) (aN _ (show Lv s (c_se a b 1) from hl9))
      show w' (srC ad src (c_se a b 0)) = Option.some (.inr (6, [.int z9.idx, .int z9.oth, .int z9.made, .int z9.snd_, .int z9.rcv, .int z9.beg, rf (srC ad src (c_sn a b 0)), .int z9.sl, .int z9.top, .int z9.took]))
      rw [v0, v1, hww]
      exact h.gc_se ha hb (by decide) (by rw [h9]; rfl) z9 h9
    by_cases n1 : q = (14, a, b, 0)
    · subst n1
      intro z9 hz9
      have h9 : s.c.se a b 1 = Option.some z9 := h0.symm.trans hz9
      have hl9 : Lv s (c_sn a b 1) := ⟨ha, hb, (show 1 < 3 by decide), by rw [h9]; rfl⟩
      have hww : w' (ad (c_sn a b 1)) = w (ad (c_sn a b 1)) := hw _ (fun z => by cases h.inj _ _ hl9 (l_c_sd (s := s) ha hb) z) (aS _ (show Lv s (c_sn a b 1) from hl9)) (aN _ (show Lv s (c_sn a b 1) from hl9))
      show w' (srC ad src (c_sn a b 0)) = _
      rw [v1, hww]
      exact h.gc_sn ha hb (by decide) (by rw [h9]; rfl) z9 h9
    by_cases n2 : q = (13, a, b, 1)
    · subst n2
      intro z9 hz9
      have h9 : z9 = z := Option.some.inj (hz9.symm.trans h1)
      subst h9
      show w' (srC ad src (c_se a b 1)) = Option.some (.inr (6, [.int z9.idx, .int z9.oth, .int z9.made, .int z9.snd_, .int z9.rcv, .int z9.beg, rf (srC ad src (c_sn a b 1)), .int z9.sl, .int z9.top, .int z9.took]))
      rw [v2, v3]; exact hS
    by_cases n3 : q = (14, a, b, 1)
    · subst n3
      intro z9 hz9
      have h9 : z9 = z := Option.some.inj (hz9.symm.trans h1)
      subst h9
      show w' (srC ad src (c_sn a b 1)) = _
      rw [v3]; exact hN
    rcases hm with hm | hm
    · exact absurd (mn q n0 n1 n2 n3) hm
    subst hm
    have e1 : srC ad src (c_sd a b) = ad (c_sd a b) := vn (10, a, b, 0) (fun z => by simp at z) (fun z => by simp at z) (fun z => by simp at z) (fun z => by simp at z)
    have e2 : srC ad src (c_fl a b) = ad (c_fl a b) := vn (15, a, b, 0) (fun z => by simp at z) (fun z => by simp at z) (fun z => by simp at z) (fun z => by simp at z)
    have e3 : srC ad src (c_pks a b) = ad (c_pks a b) := vn (11, a, b, 0) (fun z => by simp at z) (fun z => by simp at z) (fun z => by simp at z) (fun z => by simp at z)
    have f0 : oS (se' a b 0) (srC ad src (c_se a b 0)) = (oS (s.c.se a b 1) (ad (c_se a b 1))) := by rw [h0, v0]
    have f1 : oS (se' a b 1) (srC ad src (c_se a b 1)) = Option.some gS := by rw [h1, v2]; rfl
    have f2 : oS (se' a b 2) (srC ad src (c_se a b 2)) = (oS (s.c.se a b 2) (ad (c_se a b 2))) := by rw [h2, show srC ad src (c_se a b 2) = ad (c_se a b 2) from vn (13, a, b, 2) (fun z => by simp at z) (fun z => by simp at z) (fun z => by simp at z) (fun z => by simp at z)]
    show w' (srC ad src (c_sd a b)) = Option.some (.inr (2, [.int (s.c.kn a b), va_rf (oS (se' a b 0) (srC ad src (c_se a b 0))), va_rf (oS (se' a b 1) (srC ad src (c_se a b 1))), va_rf (oS (se' a b 2) (srC ad src (c_se a b 2))), va_rf (oS (s.c.fl a b) (srC ad src (c_fl a b))), .int (s.c.stT a b), .int (s.c.stS a b), .int (s.c.ck a b), .int (s.c.ckAt a b), rf (srC ad src (c_pks a b)), .int (nI (s.c.nw a b))]))
    rw [f0, f1, f2, e1, e2, e3]
    exact hsd
  · intro q x hl hm hT hx
    have n0 : q ≠ (13, a, b, 0) := fun z => by subst z; rw [m0] at hm; simp at hm
    have n1 : q ≠ (14, a, b, 0) := fun z => by subst z; rw [m1] at hm; simp at hm
    have n2 : q ≠ (13, a, b, 1) := fun z => by subst z; rw [m2] at hm; cases hm
    have n3 : q ≠ (14, a, b, 1) := fun z => by subst z; rw [m3] at hm; cases hm
    have hx : OkC s.c s.ow (srC ad src) x q := by
      refine OkC.congr2 (fun q9 hk => vn q9 (fun z => ?_) (fun z => ?_) (fun z => ?_) (fun z => ?_)) hx
      · subst z
        obtain ⟨t, a', b', k'⟩ := q
        match t, hl, hT, hk, n0, n1, n2, n3 with
        | 0, hl, hT, hk, n0, n1, n2, n3 => simp [kidC] at hk
        | 1, hl, hT, hk, n0, n1, n2, n3 => simp [kidC] at hk
        | 2, hl, hT, hk, n0, n1, n2, n3 => simp [kidC] at hk
        | 3, hl, hT, hk, n0, n1, n2, n3 => simp [kidC] at hk
        | 4, hl, hT, hk, n0, n1, n2, n3 => simp [kidC] at hk
        | 5, hl, hT, hk, n0, n1, n2, n3 => simp [kidC] at hk
        | 6, hl, hT, hk, n0, n1, n2, n3 => simp [kidC] at hk
        | 7, hl, hT, hk, n0, n1, n2, n3 => simp [kidC] at hk
        | 8, hl, hT, hk, n0, n1, n2, n3 => simp [kidC] at hk
        | 9, hl, hT, hk, n0, n1, n2, n3 => simp [kidC] at hk
        | 10, hl, hT, hk, n0, n1, n2, n3 =>
          have h9 : a' = a ∧ b' = b := by
            simp [kidC] at hk
            first | exact hk | (obtain ⟨z1, z2⟩ := hk; exact ⟨z1.symm, z2.symm⟩)
          obtain ⟨z1, z2⟩ := h9
          exact hT (by obtain ⟨_, _, h3⟩ := hl; subst z1; subst z2; subst h3; rfl)
        | 11, hl, hT, hk, n0, n1, n2, n3 => simp [kidC] at hk
        | 12, hl, hT, hk, n0, n1, n2, n3 => simp [kidC] at hk
        | 13, hl, hT, hk, n0, n1, n2, n3 => simp [kidC] at hk
        | 14, hl, hT, hk, n0, n1, n2, n3 => simp [kidC] at hk
        | 15, hl, hT, hk, n0, n1, n2, n3 => simp [kidC] at hk
        | 16, hl, hT, hk, n0, n1, n2, n3 => simp [kidC] at hk
        | 17, hl, hT, hk, n0, n1, n2, n3 => simp [kidC] at hk
        | 18, hl, hT, hk, n0, n1, n2, n3 => simp [kidC] at hk
        | 19, hl, hT, hk, n0, n1, n2, n3 => simp [kidC] at hk
        | 20, hl, hT, hk, n0, n1, n2, n3 => simp [kidC] at hk
        | 21, hl, hT, hk, n0, n1, n2, n3 => simp [kidC] at hk
        | 22, hl, hT, hk, n0, n1, n2, n3 => simp [kidC] at hk
        | 23, hl, hT, hk, n0, n1, n2, n3 => simp [kidC] at hk
        | 24, hl, hT, hk, n0, n1, n2, n3 => simp [kidC] at hk
        | 25, hl, hT, hk, n0, n1, n2, n3 => simp [kidC] at hk
        | 26, hl, hT, hk, n0, n1, n2, n3 => simp [kidC] at hk
        | n + 27, hl, hT, hk, n0, n1, n2, n3 => exact hl.elim
      · subst z
        obtain ⟨t, a', b', k'⟩ := q
        match t, hl, hT, hk, n0, n1, n2, n3 with
        | 0, hl, hT, hk, n0, n1, n2, n3 => simp [kidC] at hk
        | 1, hl, hT, hk, n0, n1, n2, n3 => simp [kidC] at hk
        | 2, hl, hT, hk, n0, n1, n2, n3 => simp [kidC] at hk
        | 3, hl, hT, hk, n0, n1, n2, n3 => simp [kidC] at hk
        | 4, hl, hT, hk, n0, n1, n2, n3 => simp [kidC] at hk
        | 5, hl, hT, hk, n0, n1, n2, n3 => simp [kidC] at hk
        | 6, hl, hT, hk, n0, n1, n2, n3 => simp [kidC] at hk
        | 7, hl, hT, hk, n0, n1, n2, n3 => simp [kidC] at hk
        | 8, hl, hT, hk, n0, n1, n2, n3 => simp [kidC] at hk
        | 9, hl, hT, hk, n0, n1, n2, n3 => simp [kidC] at hk
        | 10, hl, hT, hk, n0, n1, n2, n3 => simp [kidC] at hk
        | 11, hl, hT, hk, n0, n1, n2, n3 => simp [kidC] at hk
        | 12, hl, hT, hk, n0, n1, n2, n3 => simp [kidC] at hk
        | 13, hl, hT, hk, n0, n1, n2, n3 => first | (simp [kidC] at hk; done) | (have h9 : a' = a ∧ b' = b ∧ k' = 0 := (by simpa [kidC, eq_comm] using hk); obtain ⟨z1, z2, z3⟩ := h9; subst z1; subst z2; subst z3; exact n0 rfl)
        | 14, hl, hT, hk, n0, n1, n2, n3 => simp [kidC] at hk
        | 15, hl, hT, hk, n0, n1, n2, n3 => simp [kidC] at hk
        | 16, hl, hT, hk, n0, n1, n2, n3 => simp [kidC] at hk
        | 17, hl, hT, hk, n0, n1, n2, n3 => simp [kidC] at hk
        | 18, hl, hT, hk, n0, n1, n2, n3 => simp [kidC] at hk
        | 19, hl, hT, hk, n0, n1, n2, n3 => simp [kidC] at hk
        | 20, hl, hT, hk, n0, n1, n2, n3 => simp [kidC] at hk
        | 21, hl, hT, hk, n0, n1, n2, n3 => simp [kidC] at hk
        | 22, hl, hT, hk, n0, n1, n2, n3 => simp [kidC] at hk
        | 23, hl, hT, hk, n0, n1, n2, n3 => simp [kidC] at hk
        | 24, hl, hT, hk, n0, n1, n2, n3 => simp [kidC] at hk
        | 25, hl, hT, hk, n0, n1, n2, n3 => simp [kidC] at hk
        | 26, hl, hT, hk, n0, n1, n2, n3 => simp [kidC] at hk
        | n + 27, hl, hT, hk, n0, n1, n2, n3 => exact hl.elim
      · subst z
        obtain ⟨t, a', b', k'⟩ := q
        match t, hl, hT, hk, n0, n1, n2, n3 with
        | 0, hl, hT, hk, n0, n1, n2, n3 => simp [kidC] at hk
        | 1, hl, hT, hk, n0, n1, n2, n3 => simp [kidC] at hk
        | 2, hl, hT, hk, n0, n1, n2, n3 => simp [kidC] at hk
        | 3, hl, hT, hk, n0, n1, n2, n3 => simp [kidC] at hk
        | 4, hl, hT, hk, n0, n1, n2, n3 => simp [kidC] at hk
        | 5, hl, hT, hk, n0, n1, n2, n3 => simp [kidC] at hk
        | 6, hl, hT, hk, n0, n1, n2, n3 => simp [kidC] at hk
        | 7, hl, hT, hk, n0, n1, n2, n3 => simp [kidC] at hk
        | 8, hl, hT, hk, n0, n1, n2, n3 => simp [kidC] at hk
        | 9, hl, hT, hk, n0, n1, n2, n3 => simp [kidC] at hk
        | 10, hl, hT, hk, n0, n1, n2, n3 =>
          have h9 : a' = a ∧ b' = b := by
            simp [kidC] at hk
            first | exact hk | (obtain ⟨z1, z2⟩ := hk; exact ⟨z1.symm, z2.symm⟩)
          obtain ⟨z1, z2⟩ := h9
          exact hT (by obtain ⟨_, _, h3⟩ := hl; subst z1; subst z2; subst h3; rfl)
        | 11, hl, hT, hk, n0, n1, n2, n3 => simp [kidC] at hk
        | 12, hl, hT, hk, n0, n1, n2, n3 => simp [kidC] at hk
        | 13, hl, hT, hk, n0, n1, n2, n3 => simp [kidC] at hk
        | 14, hl, hT, hk, n0, n1, n2, n3 => simp [kidC] at hk
        | 15, hl, hT, hk, n0, n1, n2, n3 => simp [kidC] at hk
        | 16, hl, hT, hk, n0, n1, n2, n3 => simp [kidC] at hk
        | 17, hl, hT, hk, n0, n1, n2, n3 => simp [kidC] at hk
        | 18, hl, hT, hk, n0, n1, n2, n3 => simp [kidC] at hk
        | 19, hl, hT, hk, n0, n1, n2, n3 => simp [kidC] at hk
        | 20, hl, hT, hk, n0, n1, n2, n3 => simp [kidC] at hk
        | 21, hl, hT, hk, n0, n1, n2, n3 => simp [kidC] at hk
        | 22, hl, hT, hk, n0, n1, n2, n3 => simp [kidC] at hk
        | 23, hl, hT, hk, n0, n1, n2, n3 => simp [kidC] at hk
        | 24, hl, hT, hk, n0, n1, n2, n3 => simp [kidC] at hk
        | 25, hl, hT, hk, n0, n1, n2, n3 => simp [kidC] at hk
        | 26, hl, hT, hk, n0, n1, n2, n3 => simp [kidC] at hk
        | n + 27, hl, hT, hk, n0, n1, n2, n3 => exact hl.elim
      · subst z
        obtain ⟨t, a', b', k'⟩ := q
        match t, hl, hT, hk, n0, n1, n2, n3 with
        | 0, hl, hT, hk, n0, n1, n2, n3 => simp [kidC] at hk
        | 1, hl, hT, hk, n0, n1, n2, n3 => simp [kidC] at hk
        | 2, hl, hT, hk, n0, n1, n2, n3 => simp [kidC] at hk
        | 3, hl, hT, hk, n0, n1, n2, n3 => simp [kidC] at hk
        | 4, hl, hT, hk, n0, n1, n2, n3 => simp [kidC] at hk
        | 5, hl, hT, hk, n0, n1, n2, n3 => simp [kidC] at hk
        | 6, hl, hT, hk, n0, n1, n2, n3 => simp [kidC] at hk
        | 7, hl, hT, hk, n0, n1, n2, n3 => simp [kidC] at hk
        | 8, hl, hT, hk, n0, n1, n2, n3 => simp [kidC] at hk
        | 9, hl, hT, hk, n0, n1, n2, n3 => simp [kidC] at hk
        | 10, hl, hT, hk, n0, n1, n2, n3 => simp [kidC] at hk
        | 11, hl, hT, hk, n0, n1, n2, n3 => simp [kidC] at hk
        | 12, hl, hT, hk, n0, n1, n2, n3 => simp [kidC] at hk
        | 13, hl, hT, hk, n0, n1, n2, n3 => first | (simp [kidC] at hk; done) | (have h9 : a' = a ∧ b' = b ∧ k' = 1 := (by simpa [kidC, eq_comm] using hk); obtain ⟨z1, z2, z3⟩ := h9; subst z1; subst z2; subst z3; exact n2 rfl)
        | 14, hl, hT, hk, n0, n1, n2, n3 => simp [kidC] at hk
        | 15, hl, hT, hk, n0, n1, n2, n3 => simp [kidC] at hk
        | 16, hl, hT, hk, n0, n1, n2, n3 => simp [kidC] at hk
        | 17, hl, hT, hk, n0, n1, n2, n3 => simp [kidC] at hk
        | 18, hl, hT, hk, n0, n1, n2, n3 => simp [kidC] at hk
        | 19, hl, hT, hk, n0, n1, n2, n3 => simp [kidC] at hk
        | 20, hl, hT, hk, n0, n1, n2, n3 => simp [kidC] at hk
        | 21, hl, hT, hk, n0, n1, n2, n3 => simp [kidC] at hk
        | 22, hl, hT, hk, n0, n1, n2, n3 => simp [kidC] at hk
        | 23, hl, hT, hk, n0, n1, n2, n3 => simp [kidC] at hk
        | 24, hl, hT, hk, n0, n1, n2, n3 => simp [kidC] at hk
        | 25, hl, hT, hk, n0, n1, n2, n3 => simp [kidC] at hk
        | 26, hl, hT, hk, n0, n1, n2, n3 => simp [kidC] at hk
        | n + 27, hl, hT, hk, n0, n1, n2, n3 => exact hl.elim
    obtain ⟨t, a', b', k'⟩ := q
    match t, hl, hT, hx, n0, n1, n2, n3 with
    | 0, hl, hT, hx, n0, n1, n2, n3 => exact hx
    | 1, hl, hT, hx, n0, n1, n2, n3 => exact hx
    | 2, hl, hT, hx, n0, n1, n2, n3 => exact hx
    | 3, hl, hT, hx, n0, n1, n2, n3 => exact hx
    | 4, hl, hT, hx, n0, n1, n2, n3 => exact hx
    | 5, hl, hT, hx, n0, n1, n2, n3 => exact hx
    | 6, hl, hT, hx, n0, n1, n2, n3 => exact hx
    | 7, hl, hT, hx, n0, n1, n2, n3 => exact hx
    | 8, hl, hT, hx, n0, n1, n2, n3 => exact hx
    | 9, hl, hT, hx, n0, n1, n2, n3 => exact hx
    | 10, hl, hT, hx, n0, n1, n2, n3 =>
      have hx9 : ¬ (a' = a ∧ b' = b) := fun z => hT (by obtain ⟨_, _, h3⟩ := hl; obtain ⟨z1, z2⟩ := z; subst z1; subst z2; subst h3; rfl)
      show x = Option.some (.inr (2, [_, va_rf (oS (se' a' b' 0) _), va_rf (oS (se' a' b' 1) _), va_rf (oS (se' a' b' 2) _), _, _, _, _, _, _, _]))
      rw [hoth _ _ _ hx9, hoth _ _ _ hx9, hoth _ _ _ hx9]; exact hx
    | 11, hl, hT, hx, n0, n1, n2, n3 => exact hx
    | 12, hl, hT, hx, n0, n1, n2, n3 => exact hx
    | 13, hl, hT, hx, n0, n1, n2, n3 =>
      have kq : ∀ z9, se' a' b' k' = Option.some z9 → s.c.se a' b' k' = Option.some z9 := by
        intro z9 hz9
        by_cases hab : a' = a ∧ b' = b
        · obtain ⟨z1, z2⟩ := hab
          subst z1; subst z2
          have hk8 : k' < 3 := hl.2.2.1
          have hk9 : k' = 0 ∨ k' = 1 ∨ k' = 2 := by omega
          rcases hk9 with z3 | z3 | z3 <;> subst z3
          · first | exact absurd rfl n0 | exact absurd rfl n1 | exact absurd rfl n2 | exact absurd rfl n3 | (rw [h0] at hz9; exact hz9) | (rw [h0] at hz9; cases hz9)
          · first | exact absurd rfl n0 | exact absurd rfl n1 | exact absurd rfl n2 | exact absurd rfl n3 | (rw [h1] at hz9; exact hz9) | (rw [h1] at hz9; cases hz9)
          · first | exact absurd rfl n0 | exact absurd rfl n1 | exact absurd rfl n2 | exact absurd rfl n3 | (rw [h2] at hz9; exact hz9) | (rw [h2] at hz9; cases hz9)
        · rw [hoth _ _ _ hab] at hz9; exact hz9
      intro z9 hz9
      exact hx z9 (kq z9 hz9)
    | 14, hl, hT, hx, n0, n1, n2, n3 =>
      have kq : ∀ z9, se' a' b' k' = Option.some z9 → s.c.se a' b' k' = Option.some z9 := by
        intro z9 hz9
        by_cases hab : a' = a ∧ b' = b
        · obtain ⟨z1, z2⟩ := hab
          subst z1; subst z2
          have hk8 : k' < 3 := hl.2.2.1
          have hk9 : k' = 0 ∨ k' = 1 ∨ k' = 2 := by omega
          rcases hk9 with z3 | z3 | z3 <;> subst z3
          · first | exact absurd rfl n0 | exact absurd rfl n1 | exact absurd rfl n2 | exact absurd rfl n3 | (rw [h0] at hz9; exact hz9) | (rw [h0] at hz9; cases hz9)
          · first | exact absurd rfl n0 | exact absurd rfl n1 | exact absurd rfl n2 | exact absurd rfl n3 | (rw [h1] at hz9; exact hz9) | (rw [h1] at hz9; cases hz9)
          · first | exact absurd rfl n0 | exact absurd rfl n1 | exact absurd rfl n2 | exact absurd rfl n3 | (rw [h2] at hz9; exact hz9) | (rw [h2] at hz9; cases hz9)
        · rw [hoth _ _ _ hab] at hz9; exact hz9
      intro z9 hz9
      exact hx z9 (kq z9 hz9)
    | 15, hl, hT, hx, n0, n1, n2, n3 => exact hx
    | 16, hl, hT, hx, n0, n1, n2, n3 => exact hx
    | 17, hl, hT, hx, n0, n1, n2, n3 => exact hx
    | 18, hl, hT, hx, n0, n1, n2, n3 => exact hx
    | 19, hl, hT, hx, n0, n1, n2, n3 => exact hx
    | 20, hl, hT, hx, n0, n1, n2, n3 => exact hx
    | 21, hl, hT, hx, n0, n1, n2, n3 => exact hx
    | 22, hl, hT, hx, n0, n1, n2, n3 => exact hx
    | 23, hl, hT, hx, n0, n1, n2, n3 => exact hx
    | 24, hl, hT, hx, n0, n1, n2, n3 => exact hx
    | 25, hl, hT, hx, n0, n1, n2, n3 => exact hx
    | 26, hl, hT, hx, n0, n1, n2, n3 => exact hx
    | n + 27, hl, hT, hx, n0, n1, n2, n3 => exact hl.elim
theorem R.se_turn {A ad : Ro → Nat} {s : Wo} {w w' : Hp} {a b : Nat} {se' : Nat → Nat → Nat → Option Ses} (h : R A ad s w) (ha : a < 3) (hb : b < 3) (h0 : se' a b 0 = s.c.se a b 1) (h1 : se' a b 1 = s.c.se a b 2) (h2 : se' a b 2 = Option.none) (hoth : ∀ i j k, ¬ (i = a ∧ j = b) → se' i j k = s.c.se i j k) (hsd : w' (ad (c_sd a b)) = Option.some (.inr (2, [.int (s.c.kn a b), va_rf (oS (s.c.se a b 1) (ad (c_se a b 1))), va_rf (oS (s.c.se a b 2) (ad (c_se a b 2))), va_rf Option.none, va_rf (oS (s.c.fl a b) (ad (c_fl a b))), .int (s.c.stT a b), .int (s.c.stS a b), .int (s.c.ck a b), .int (s.c.ckAt a b), rf (ad (c_pks a b)), .int (nI (s.c.nw a b))])))
    (hw : ∀ q, q ≠ ad (c_sd a b) → w' q = w q)
    (hro : ∀ a, w' a = Option.some roE → a = ad c_e) : R A (srC ad (fun q => if q = (13, a, b, 0) then .inl (13, a, b, 1) else if q = (14, a, b, 0) then .inl (14, a, b, 1) else if q = (13, a, b, 1) then .inl (13, a, b, 2) else if q = (14, a, b, 1) then .inl (14, a, b, 2) else .inl q)) ((s.s_c (s.c.s_se se')).s_ow s.ow) w' := by
  obtain ⟨src, hsrc⟩ : ∃ z : Rq → Rq ⊕ Nat, z = fun q => if q = (13, a, b, 0) then .inl (13, a, b, 1) else if q = (14, a, b, 0) then .inl (14, a, b, 1) else if q = (13, a, b, 1) then .inl (13, a, b, 2) else if q = (14, a, b, 1) then .inl (14, a, b, 2) else .inl q := ⟨_, rfl⟩
  rw [← hsrc]
  have m0 : src (13, a, b, 0) = .inl (13, a, b, 1) := by
    rw [hsrc]; show (if _ = _ then _ else _) = _
    rw [if_pos rfl]
  have m1 : src (14, a, b, 0) = .inl (14, a, b, 1) := by
    rw [hsrc]; show (if _ = _ then _ else _) = _
    rw [if_neg (fun z => by simp at z)]
    rw [if_pos rfl]
  have m2 : src (13, a, b, 1) = .inl (13, a, b, 2) := by
    rw [hsrc]; show (if _ = _ then _ else _) = _
    rw [if_neg (fun z => by simp at z)]
    rw [if_neg (fun z => by simp at z)]
    rw [if_pos rfl]
  have m3 : src (14, a, b, 1) = .inl (14, a, b, 2) := by
    rw [hsrc]; show (if _ = _ then _ else _) = _
    rw [if_neg (fun z => by simp at z)]
    rw [if_neg (fun z => by simp at z)]
    rw [if_neg (fun z => by simp at z)]
    rw [if_pos rfl]
  have mn : ∀ q, q ≠ (13, a, b, 0) → q ≠ (14, a, b, 0) → q ≠ (13, a, b, 1) → q ≠ (14, a, b, 1) → src q = .inl q := by
    intro q n0 n1 n2 n3
    rw [hsrc]
    show (if _ = _ then _ else _) = _
    rw [if_neg n0, if_neg n1, if_neg n2, if_neg n3]
  have v0 : srC ad src (c_se a b 0) = ad (c_se a b 1) := srC_o m0
  have v1 : srC ad src (c_sn a b 0) = ad (c_sn a b 1) := srC_o m1
  have v2 : srC ad src (c_se a b 1) = ad (c_se a b 2) := srC_o m2
  have v3 : srC ad src (c_sn a b 1) = ad (c_sn a b 2) := srC_o m3
  have vn : ∀ q, q ≠ (13, a, b, 0) → q ≠ (14, a, b, 0) → q ≠ (13, a, b, 1) → q ≠ (14, a, b, 1) → srC ad src (.inl q) = ad (.inl q) := fun q n0 n1 n2 n3 => srC_o (mn q n0 n1 n2 n3)
  refine h.genC2 (s.c.s_se se') s.ow src (fun q => q = (10, a, b, 0)) ?_ ?_ ?_ ?_ ?_ ?_ ?_ hro
  · intro q hq
    exact mn q (fun z => by subst z; exact absurd (show false = true from hq) (by decide)) (fun z => by subst z; exact absurd (show false = true from hq) (by decide)) (fun z => by subst z; exact absurd (show false = true from hq) (by decide)) (fun z => by subst z; exact absurd (show false = true from hq) (by decide))
  · intro q q0 hl e
    by_cases n0 : q = (13, a, b, 0)
    · subst n0; rw [m0] at e
      cases e; exact ⟨ha, hb, (show 1 < 3 by decide), by have h9 := hl.2.2.2; rwa [show (s.c.s_se se').se a b 0 = s.c.se a b 1 from h0] at h9⟩
    by_cases n1 : q = (14, a, b, 0)
    · subst n1; rw [m1] at e
      cases e; exact ⟨ha, hb, (show 1 < 3 by decide), by have h9 := hl.2.2.2; rwa [show (s.c.s_se se').se a b 0 = s.c.se a b 1 from h0] at h9⟩
    by_cases n2 : q = (13, a, b, 1)
    · subst n2; rw [m2] at e
      cases e; exact ⟨ha, hb, (show 2 < 3 by decide), by have h9 := hl.2.2.2; rwa [show (s.c.s_se se').se a b 1 = s.c.se a b 2 from h1] at h9⟩
    by_cases n3 : q = (14, a, b, 1)
    · subst n3; rw [m3] at e
      cases e; exact ⟨ha, hb, (show 2 < 3 by decide), by have h9 := hl.2.2.2; rwa [show (s.c.s_se se').se a b 1 = s.c.se a b 2 from h1] at h9⟩
    rw [mn q n0 n1 n2 n3] at e
    cases e
    obtain ⟨t, a', b', k'⟩ := q
    match t, hl, n0, n1, n2, n3 with
    | 0, hl, n0, n1, n2, n3 => exact hl
    | 1, hl, n0, n1, n2, n3 => exact hl
    | 2, hl, n0, n1, n2, n3 => exact hl
    | 3, hl, n0, n1, n2, n3 => exact hl
    | 4, hl, n0, n1, n2, n3 => exact hl
    | 5, hl, n0, n1, n2, n3 => exact hl
    | 6, hl, n0, n1, n2, n3 => exact hl
    | 7, hl, n0, n1, n2, n3 => exact hl
    | 8, hl, n0, n1, n2, n3 => exact hl
    | 9, hl, n0, n1, n2, n3 => exact hl
    | 10, hl, n0, n1, n2, n3 => exact hl
    | 11, hl, n0, n1, n2, n3 => exact hl
    | 12, hl, n0, n1, n2, n3 => exact hl
    | 13, hl, n0, n1, n2, n3 =>
      have kq : ∀ z9, se' a' b' k' = Option.some z9 → s.c.se a' b' k' = Option.some z9 := by
        intro z9 hz9
        by_cases hab : a' = a ∧ b' = b
        · obtain ⟨z1, z2⟩ := hab
          subst z1; subst z2
          have hk8 : k' < 3 := hl.2.2.1
          have hk9 : k' = 0 ∨ k' = 1 ∨ k' = 2 := by omega
          rcases hk9 with z3 | z3 | z3 <;> subst z3
          · first | exact absurd rfl n0 | exact absurd rfl n1 | exact absurd rfl n2 | exact absurd rfl n3 | (rw [h0] at hz9; exact hz9) | (rw [h0] at hz9; cases hz9)
          · first | exact absurd rfl n0 | exact absurd rfl n1 | exact absurd rfl n2 | exact absurd rfl n3 | (rw [h1] at hz9; exact hz9) | (rw [h1] at hz9; cases hz9)
          · first | exact absurd rfl n0 | exact absurd rfl n1 | exact absurd rfl n2 | exact absurd rfl n3 | (rw [h2] at hz9; exact hz9) | (rw [h2] at hz9; cases hz9)
        · rw [hoth _ _ _ hab] at hz9; exact hz9
      obtain ⟨z9, hz9⟩ := Option.isSome_iff_exists.mp (show (se' a' b' k').isSome = true from hl.2.2.2)
      exact ⟨hl.1, hl.2.1, hl.2.2.1, by rw [kq z9 hz9]; rfl⟩
    | 14, hl, n0, n1, n2, n3 =>
      have kq : ∀ z9, se' a' b' k' = Option.some z9 → s.c.se a' b' k' = Option.some z9 := by
        intro z9 hz9
        by_cases hab : a' = a ∧ b' = b
        · obtain ⟨z1, z2⟩ := hab
          subst z1; subst z2
          have hk8 : k' < 3 := hl.2.2.1
          have hk9 : k' = 0 ∨ k' = 1 ∨ k' = 2 := by omega
          rcases hk9 with z3 | z3 | z3 <;> subst z3
          · first | exact absurd rfl n0 | exact absurd rfl n1 | exact absurd rfl n2 | exact absurd rfl n3 | (rw [h0] at hz9; exact hz9) | (rw [h0] at hz9; cases hz9)
          · first | exact absurd rfl n0 | exact absurd rfl n1 | exact absurd rfl n2 | exact absurd rfl n3 | (rw [h1] at hz9; exact hz9) | (rw [h1] at hz9; cases hz9)
          · first | exact absurd rfl n0 | exact absurd rfl n1 | exact absurd rfl n2 | exact absurd rfl n3 | (rw [h2] at hz9; exact hz9) | (rw [h2] at hz9; cases hz9)
        · rw [hoth _ _ _ hab] at hz9; exact hz9
      obtain ⟨z9, hz9⟩ := Option.isSome_iff_exists.mp (show (se' a' b' k').isSome = true from hl.2.2.2)
      exact ⟨hl.1, hl.2.1, hl.2.2.1, by rw [kq z9 hz9]; rfl⟩
    | 15, hl, n0, n1, n2, n3 => exact hl
    | 16, hl, n0, n1, n2, n3 => exact hl
    | 17, hl, n0, n1, n2, n3 => exact hl
    | 18, hl, n0, n1, n2, n3 => exact hl
    | 19, hl, n0, n1, n2, n3 => exact hl
    | 20, hl, n0, n1, n2, n3 => exact hl
    | 21, hl, n0, n1, n2, n3 => exact hl
    | 22, hl, n0, n1, n2, n3 => exact hl
    | 23, hl, n0, n1, n2, n3 => exact hl
    | 24, hl, n0, n1, n2, n3 => exact hl
    | 25, hl, n0, n1, n2, n3 => exact hl
    | 26, hl, n0, n1, n2, n3 => exact hl
    | n + 27, hl, n0, n1, n2, n3 => exact hl.elim
  · intro q g hl e r hr
    by_cases n0 : q = (13, a, b, 0)
    · subst n0; rw [m0] at e; cases e
    by_cases n1 : q = (14, a, b, 0)
    · subst n1; rw [m1] at e; cases e
    by_cases n2 : q = (13, a, b, 1)
    · subst n2; rw [m2] at e; cases e
    by_cases n3 : q = (14, a, b, 1)
    · subst n3; rw [m3] at e; cases e
    rw [mn q n0 n1 n2 n3] at e; cases e
  · intro q q' hl hl' e
    by_cases n0 : q = (13, a, b, 0)
    · subst n0; rw [m0] at e
      by_cases p0 : q' = (13, a, b, 0)
      · exact p0.symm
      by_cases p1 : q' = (14, a, b, 0)
      · subst p1; rw [m1] at e; simp at e
      by_cases p2 : q' = (13, a, b, 1)
      · subst p2; rw [m2] at e; simp at e
      by_cases p3 : q' = (14, a, b, 1)
      · subst p3; rw [m3] at e; simp at e
      rw [mn q' p0 p1 p2 p3] at e
      cases e; first | exact absurd rfl p0 | exact absurd rfl p1 | exact absurd rfl p2 | exact absurd rfl p3 | (exfalso; have h9 := hl'.2.2.2; rw [show (s.c.s_se se').se a b 2 = Option.none from h2] at h9; cases h9)
    by_cases n1 : q = (14, a, b, 0)
    · subst n1; rw [m1] at e
      by_cases p0 : q' = (13, a, b, 0)
      · subst p0; rw [m0] at e; simp at e
      by_cases p1 : q' = (14, a, b, 0)
      · exact p1.symm
      by_cases p2 : q' = (13, a, b, 1)
      · subst p2; rw [m2] at e; simp at e
      by_cases p3 : q' = (14, a, b, 1)
      · subst p3; rw [m3] at e; simp at e
      rw [mn q' p0 p1 p2 p3] at e
      cases e; first | exact absurd rfl p0 | exact absurd rfl p1 | exact absurd rfl p2 | exact absurd rfl p3 | (exfalso; have h9 := hl'.2.2.2; rw [show (s.c.s_se se').se a b 2 = Option.none from h2] at h9; cases h9)
    by_cases n2 : q = (13, a, b, 1)
    · subst n2; rw [m2] at e
      by_cases p0 : q' = (13, a, b, 0)
      · subst p0; rw [m0] at e; simp at e
      by_cases p1 : q' = (14, a, b, 0)
      · subst p1; rw [m1] at e; simp at e
      by_cases p2 : q' = (13, a, b, 1)
      · exact p2.symm
      by_cases p3 : q' = (14, a, b, 1)
      · subst p3; rw [m3] at e; simp at e
      rw [mn q' p0 p1 p2 p3] at e
      cases e; first | exact absurd rfl p0 | exact absurd rfl p1 | exact absurd rfl p2 | exact absurd rfl p3 | (exfalso; have h9 := hl'.2.2.2; rw [show (s.c.s_se se').se a b 2 = Option.none from h2] at h9; cases h9)
    by_cases n3 : q = (14, a, b, 1)
    · subst n3; rw [m3] at e
      by_cases p0 : q' = (13, a, b, 0)
      · subst p0; rw [m0] at e; simp at e
      by_cases p1 : q' = (14, a, b, 0)
      · subst p1; rw [m1] at e; simp at e
      by_cases p2 : q' = (13, a, b, 1)
      · subst p2; rw [m2] at e; simp at e
      by_cases p3 : q' = (14, a, b, 1)
      · exact p3.symm
      rw [mn q' p0 p1 p2 p3] at e
      cases e; first | exact absurd rfl p0 | exact absurd rfl p1 | exact absurd rfl p2 | exact absurd rfl p3 | (exfalso; have h9 := hl'.2.2.2; rw [show (s.c.s_se se').se a b 2 = Option.none from h2] at h9; cases h9)
    rw [mn q n0 n1 n2 n3] at e
    by_cases p0 : q' = (13, a, b, 0)
    · subst p0; rw [m0] at e; cases e; first | exact absurd rfl n0 | exact absurd rfl n1 | exact absurd rfl n2 | exact absurd rfl n3 | (exfalso; have h9 := hl.2.2.2; rw [show (s.c.s_se se').se a b 2 = Option.none from h2] at h9; cases h9)
    by_cases p1 : q' = (14, a, b, 0)
    · subst p1; rw [m1] at e; cases e; first | exact absurd rfl n0 | exact absurd rfl n1 | exact absurd rfl n2 | exact absurd rfl n3 | (exfalso; have h9 := hl.2.2.2; rw [show (s.c.s_se se').se a b 2 = Option.none from h2] at h9; cases h9)
    by_cases p2 : q' = (13, a, b, 1)
    · subst p2; rw [m2] at e; cases e; first | exact absurd rfl n0 | exact absurd rfl n1 | exact absurd rfl n2 | exact absurd rfl n3 | (exfalso; have h9 := hl.2.2.2; rw [show (s.c.s_se se').se a b 2 = Option.none from h2] at h9; cases h9)
    by_cases p3 : q' = (14, a, b, 1)
    · subst p3; rw [m3] at e; cases e; first | exact absurd rfl n0 | exact absurd rfl n1 | exact absurd rfl n2 | exact absurd rfl n3 | (exfalso; have h9 := hl.2.2.2; rw [show (s.c.s_se se').se a b 2 = Option.none from h2] at h9; cases h9)
    rw [mn q' p0 p1 p2 p3] at e
    exact Sum.inl.inj e
  · intro r hl hT
    exact hw _ (fun z => hT _ (h.inj _ _ hl (show Lv s (c_sd a b) from l_c_sd (s := s) ha hb) z) rfl) 
  · intro q hl hm
    by_cases n0 : q = (13, a, b, 0)
    · subst n0
      intro z9 hz9
      have h9 : s.c.se a b 1 = Option.some z9 := h0.symm.trans hz9
      have hl9 : Lv s (c_se a b 1) := ⟨ha, hb, (show 1 < 3 by decide), by rw [h9]; rfl⟩
      have hww : w' (ad (c_se a b 1)) = w (ad (c_se a b 1)) := hw _ (fun z => by cases h.inj _ _ hl9 (l_c_sd (s := s) ha hb) z) 
      show w' (srC ad src (c_se a b 0)) = Option.some (.inr (6, [.int z9.idx, .int z9.oth, .int z9.made, .int z9.snd_, .int z9.rcv, .int z9.beg, rf (srC ad src (c_sn a b 0)), .int z9.sl, .int z9.top, .int z9.took]))
      rw [v0, v1, hww]
      exact h.gc_se ha hb (by decide) (by rw [h9]; rfl) z9 h9
    by_cases n1 : q = (14, a, b, 0)
    · subst n1
      intro z9 hz9
      have h9 : s.c.se a b 1 = Option.some z9 := h0.symm.trans hz9
      have hl9 : Lv s (c_sn a b 1) := ⟨ha, hb, (show 1 < 3 by decide), by rw [h9]; rfl⟩
      have hww : w' (ad (c_sn a b 1)) = w (ad (c_sn a b 1)) := hw _ (fun z => by cases h.inj _ _ hl9 (l_c_sd (s := s) ha hb) z) 
      show w' (srC ad src (c_sn a b 0)) = _
      rw [v1, hww]
      exact h.gc_sn ha hb (by decide) (by rw [h9]; rfl) z9 h9
    by_cases n2 : q = (13, a, b, 1)
    · subst n2
      intro z9 hz9
      have h9 : s.c.se a b 2 = Option.some z9 := h1.symm.trans hz9
      have hl9 : Lv s (c_se a b 2) := ⟨ha, hb, (show 2 < 3 by decide), by rw [h9]; rfl⟩
      have hww : w' (ad (c_se a b 2)) = w (ad (c_se a b 2)) := hw _ (fun z => by cases h.inj _ _ hl9 (l_c_sd (s := s) ha hb) z) 
      show w' (srC ad src (c_se a b 1)) = Option.some (.inr (6, [.int z9.idx, .int z9.oth, .int z9.made, .int z9.snd_, .int z9.rcv, .int z9.beg, rf (srC ad src (c_sn a b 1)), .int z9.sl, .int z9.top, .int z9.took]))
      rw [v2, v3, hww]
      exact h.gc_se ha hb (by decide) (by rw [h9]; rfl) z9 h9
    by_cases n3 : q = (14, a, b, 1)
    · subst n3
      intro z9 hz9
      have h9 : s.c.se a b 2 = Option.some z9 := h1.symm.trans hz9
      have hl9 : Lv s (c_sn a b 2) := ⟨ha, hb, (show 2 < 3 by decide), by rw [h9]; rfl⟩
      have hww : w' (ad (c_sn a b 2)) = w (ad (c_sn a b 2)) := hw _ (fun z => by cases h.inj _ _ hl9 (l_c_sd (s := s) ha hb) z) 
      show w' (srC ad src (c_sn a b 1)) = _
      rw [v3, hww]
      exact h.gc_sn ha hb (by decide) (by rw [h9]; rfl) z9 h9
    rcases hm with hm | hm
    · exact absurd (mn q n0 n1 n2 n3) hm
    subst hm
    have e1 : srC ad src (c_sd a b) = ad (c_sd a b) := vn (10, a, b, 0) (fun z => by simp at z) (fun z => by simp at z) (fun z => by simp at z) (fun z => by simp at z)
    have e2 : srC ad src (c_fl a b) = ad (c_fl a b) := vn (15, a, b, 0) (fun z => by simp at z) (fun z => by simp at z) (fun z => by simp at z) (fun z => by simp at z)
    have e3 : srC ad src (c_pks a b) = ad (c_pks a b) := vn (11, a, b, 0) (fun z => by simp at z) (fun z => by simp at z) (fun z => by simp at z) (fun z => by simp at z)
    have f0 : oS (se' a b 0) (srC ad src (c_se a b 0)) = (oS (s.c.se a b 1) (ad (c_se a b 1))) := by rw [h0, v0]
    have f1 : oS (se' a b 1) (srC ad src (c_se a b 1)) = (oS (s.c.se a b 2) (ad (c_se a b 2))) := by rw [h1, v2]
    have f2 : oS (se' a b 2) (srC ad src (c_se a b 2)) = Option.none := by rw [h2]; rfl
    show w' (srC ad src (c_sd a b)) = Option.some (.inr (2, [.int (s.c.kn a b), va_rf (oS (se' a b 0) (srC ad src (c_se a b 0))), va_rf (oS (se' a b 1) (srC ad src (c_se a b 1))), va_rf (oS (se' a b 2) (srC ad src (c_se a b 2))), va_rf (oS (s.c.fl a b) (srC ad src (c_fl a b))), .int (s.c.stT a b), .int (s.c.stS a b), .int (s.c.ck a b), .int (s.c.ckAt a b), rf (srC ad src (c_pks a b)), .int (nI (s.c.nw a b))]))
    rw [f0, f1, f2, e1, e2, e3]
    exact hsd
  · intro q x hl hm hT hx
    have n0 : q ≠ (13, a, b, 0) := fun z => by subst z; rw [m0] at hm; simp at hm
    have n1 : q ≠ (14, a, b, 0) := fun z => by subst z; rw [m1] at hm; simp at hm
    have n2 : q ≠ (13, a, b, 1) := fun z => by subst z; rw [m2] at hm; simp at hm
    have n3 : q ≠ (14, a, b, 1) := fun z => by subst z; rw [m3] at hm; simp at hm
    have hx : OkC s.c s.ow (srC ad src) x q := by
      refine OkC.congr2 (fun q9 hk => vn q9 (fun z => ?_) (fun z => ?_) (fun z => ?_) (fun z => ?_)) hx
      · subst z
        obtain ⟨t, a', b', k'⟩ := q
        match t, hl, hT, hk, n0, n1, n2, n3 with
        | 0, hl, hT, hk, n0, n1, n2, n3 => simp [kidC] at hk
        | 1, hl, hT, hk, n0, n1, n2, n3 => simp [kidC] at hk
        | 2, hl, hT, hk, n0, n1, n2, n3 => simp [kidC] at hk
        | 3, hl, hT, hk, n0, n1, n2, n3 => simp [kidC] at hk
        | 4, hl, hT, hk, n0, n1, n2, n3 => simp [kidC] at hk
        | 5, hl, hT, hk, n0, n1, n2, n3 => simp [kidC] at hk
        | 6, hl, hT, hk, n0, n1, n2, n3 => simp [kidC] at hk
        | 7, hl, hT, hk, n0, n1, n2, n3 => simp [kidC] at hk
        | 8, hl, hT, hk, n0, n1, n2, n3 => simp [kidC] at hk
        | 9, hl, hT, hk, n0, n1, n2, n3 => simp [kidC] at hk
        | 10, hl, hT, hk, n0, n1, n2, n3 =>
          have h9 : a' = a ∧ b' = b := by
            simp [kidC] at hk
            first | exact hk | (obtain ⟨z1, z2⟩ := hk; exact ⟨z1.symm, z2.symm⟩)
          obtain ⟨z1, z2⟩ := h9
          exact hT (by obtain ⟨_, _, h3⟩ := hl; subst z1; subst z2; subst h3; rfl)
        | 11, hl, hT, hk, n0, n1, n2, n3 => simp [kidC] at hk
        | 12, hl, hT, hk, n0, n1, n2, n3 => simp [kidC] at hk
        | 13, hl, hT, hk, n0, n1, n2, n3 => simp [kidC] at hk
        | 14, hl, hT, hk, n0, n1, n2, n3 => simp [kidC] at hk
        | 15, hl, hT, hk, n0, n1, n2, n3 => simp [kidC] at hk
        | 16, hl, hT, hk, n0, n1, n2, n3 => simp [kidC] at hk
        | 17, hl, hT, hk, n0, n1, n2, n3 => simp [kidC] at hk
        | 18, hl, hT, hk, n0, n1, n2, n3 => simp [kidC] at hk
        | 19, hl, hT, hk, n0, n1, n2, n3 => simp [kidC] at hk
        | 20, hl, hT, hk, n0, n1, n2, n3 => simp [kidC] at hk
        | 21, hl, hT, hk, n0, n1, n2, n3 => simp [kidC] at hk
        | 22, hl, hT, hk, n0, n1, n2, n3 => simp [kidC] at hk
        | 23, hl, hT, hk, n0, n1, n2, n3 => simp [kidC] at hk
        | 24, hl, hT, hk, n0, n1, n2, n3 => simp [kidC] at hk
        | 25, hl, hT, hk, n0, n1, n2, n3 => simp [kidC] at hk
        | 26, hl, hT, hk, n0, n1, n2, n3 => simp [kidC] at hk
        | n + 27, hl, hT, hk, n0, n1, n2, n3 => exact hl.elim
      · subst z
        obtain ⟨t, a', b', k'⟩ := q
        match t, hl, hT, hk, n0, n1, n2, n3 with
        | 0, hl, hT, hk, n0, n1, n2, n3 => simp [kidC] at hk
        | 1, hl, hT, hk, n0, n1, n2, n3 => simp [kidC] at hk
        | 2, hl, hT, hk, n0, n1, n2, n3 => simp [kidC] at hk
        | 3, hl, hT, hk, n0, n1, n2, n3 => simp [kidC] at hk
        | 4, hl, hT, hk, n0, n1, n2, n3 => simp [kidC] at hk
        | 5, hl, hT, hk, n0, n1, n2, n3 => simp [kidC] at hk
        | 6, hl, hT, hk, n0, n1, n2, n3 => simp [kidC] at hk
        | 7, hl, hT, hk, n0, n1, n2, n3 => simp [kidC] at hk
        | 8, hl, hT, hk, n0, n1, n2, n3 => simp [kidC] at hk
        | 9, hl, hT, hk, n0, n1, n2, n3 => simp [kidC] at hk
        | 10, hl, hT, hk, n0, n1, n2, n3 => simp [kidC] at hk
        | 11, hl, hT, hk, n0, n1, n2, n3 => simp [kidC] at hk
        | 12, hl, hT, hk, n0, n1, n2, n3 => simp [kidC] at hk
        | 13, hl, hT, hk, n0, n1, n2, n3 => first | (simp [kidC] at hk; done) | (have h9 : a' = a ∧ b' = b ∧ k' = 0 := (by simpa [kidC, eq_comm] using hk); obtain ⟨z1, z2, z3⟩ := h9; subst z1; subst z2; subst z3; exact n0 rfl)
        | 14, hl, hT, hk, n0, n1, n2, n3 => simp [kidC] at hk
        | 15, hl, hT, hk, n0, n1, n2, n3 => simp [kidC] at hk
        | 16, hl, hT, hk, n0, n1, n2, n3 => simp [kidC] at hk
        | 17, hl, hT, hk, n0, n1, n2, n3 => simp [kidC] at hk
        | 18, hl, hT, hk, n0, n1, n2, n3 => simp [kidC] at hk
        | 19, hl, hT, hk, n0, n1, n2, n3 => simp [kidC] at hk
        | 20, hl, hT, hk, n0, n1, n2, n3 => simp [kidC] at hk
        | 21, hl, hT, hk, n0, n1, n2, n3 => simp [kidC] at hk
        | 22, hl, hT, hk, n0, n1, n2, n3 => simp [kidC] at hk
        | 23, hl, hT, hk, n0, n1, n2, n3 => simp [kidC] at hk
        | 24, hl, hT, hk, n0, n1, n2, n3 => simp [kidC] at hk
        | 25, hl, hT, hk, n0, n1, n2, n3 => simp [kidC] at hk
        | 26, hl, hT, hk, n0, n1, n2, n3 => simp [kidC] at hk
        | n + 27, hl, hT, hk, n0, n1, n2, n3 => exact hl.elim
      · subst z
        obtain ⟨t, a', b', k'⟩ := q
        match t, hl, hT, hk, n0, n1, n2, n3 with
        | 0, hl, hT, hk, n0, n1, n2, n3 => simp [kidC] at hk
        | 1, hl, hT, hk, n0, n1, n2, n3 => simp [kidC] at hk
        | 2, hl, hT, hk, n0, n1, n2, n3 => simp [kidC] at hk
        | 3, hl, hT, hk, n0, n1, n2, n3 => simp [kidC] at hk
        | 4, hl, hT, hk, n0, n1, n2, n3 => simp [kidC] at hk
        | 5, hl, hT, hk, n0, n1, n2, n3 => simp [kidC] at hk
        | 6, hl, hT, hk, n0, n1, n2, n3 => simp [kidC] at hk
        | 7, hl, hT, hk, n0, n1, n2, n3 => simp [kidC] at hk
        | 8, hl, hT, hk, n0, n1, n2, n3 => simp [kidC] at hk
        | 9, hl, hT, hk, n0, n1, n2, n3 => simp [kidC] at hk
        | 10, hl, hT, hk, n0, n1, n2, n3 =>
          have h9 : a' = a ∧ b' = b := by
            simp [kidC] at hk
            first | exact hk | (obtain ⟨z1, z2⟩ := hk; exact ⟨z1.symm, z2.symm⟩)
          obtain ⟨z1, z2⟩ := h9
          exact hT (by obtain ⟨_, _, h3⟩ := hl; subst z1; subst z2; subst h3; rfl)
        | 11, hl, hT, hk, n0, n1, n2, n3 => simp [kidC] at hk
        | 12, hl, hT, hk, n0, n1, n2, n3 => simp [kidC] at hk
        | 13, hl, hT, hk, n0, n1, n2, n3 => simp [kidC] at hk
        | 14, hl, hT, hk, n0, n1, n2, n3 => simp [kidC] at hk
        | 15, hl, hT, hk, n0, n1, n2, n3 => simp [kidC] at hk
        | 16, hl, hT, hk, n0, n1, n2, n3 => simp [kidC] at hk
        | 17, hl, hT, hk, n0, n1, n2, n3 => simp [kidC] at hk
        | 18, hl, hT, hk, n0, n1, n2, n3 => simp [kidC] at hk
        | 19, hl, hT, hk, n0, n1, n2, n3 => simp [kidC] at hk
        | 20, hl, hT, hk, n0, n1, n2, n3 => simp [kidC] at hk
        | 21, hl, hT, hk, n0, n1, n2, n3 => simp [kidC] at hk
        | 22, hl, hT, hk, n0, n1, n2, n3 => simp [kidC] at hk
        | 23, hl, hT, hk, n0, n1, n2, n3 => simp [kidC] at hk
        | 24, hl, hT, hk, n0, n1, n2, n3 => simp [kidC] at hk
        | 25, hl, hT, hk, n0, n1, n2, n3 => simp [kidC] at hk
        | 26, hl, hT, hk, n0, n1, n2, n3 => simp [kidC] at hk
        | n + 27, hl, hT, hk, n0, n1, n2, n3 => exact hl.elim
      · subst z
        obtain ⟨t, a', b', k'⟩ := q
        match t, hl, hT, hk, n0, n1, n2, n3 with
        | 0, hl, hT, hk, n0, n1, n2, n3 => simp [kidC] at hk
        | 1, hl, hT, hk, n0, n1, n2, n3 => simp [kidC] at hk
        | 2, hl, hT, hk, n0, n1, n2, n3 => simp [kidC] at hk
        | 3, hl, hT, hk, n0, n1, n2, n3 => simp [kidC] at hk
        | 4, hl, hT, hk, n0, n1, n2, n3 => simp [kidC] at hk
        | 5, hl, hT, hk, n0, n1, n2, n3 => simp [kidC] at hk
        | 6, hl, hT, hk, n0, n1, n2, n3 => simp [kidC] at hk
        | 7, hl, hT, hk, n0, n1, n2, n3 => simp [kidC] at hk
        | 8, hl, hT, hk, n0, n1, n2, n3 => simp [kidC] at hk
        | 9, hl, hT, hk, n0, n1, n2, n3 => simp [kidC] at hk
        | 10, hl, hT, hk, n0, n1, n2, n3 => simp [kidC] at hk
        | 11, hl, hT, hk, n0, n1, n2, n3 => simp [kidC] at hk
        | 12, hl, hT, hk, n0, n1, n2, n3 => simp [kidC] at hk
        | 13, hl, hT, hk, n0, n1, n2, n3 => first | (simp [kidC] at hk; done) | (have h9 : a' = a ∧ b' = b ∧ k' = 1 := (by simpa [kidC, eq_comm] using hk); obtain ⟨z1, z2, z3⟩ := h9; subst z1; subst z2; subst z3; exact n2 rfl)
        | 14, hl, hT, hk, n0, n1, n2, n3 => simp [kidC] at hk
        | 15, hl, hT, hk, n0, n1, n2, n3 => simp [kidC] at hk
        | 16, hl, hT, hk, n0, n1, n2, n3 => simp [kidC] at hk
        | 17, hl, hT, hk, n0, n1, n2, n3 => simp [kidC] at hk
        | 18, hl, hT, hk, n0, n1, n2, n3 => simp [kidC] at hk
        | 19, hl, hT, hk, n0, n1, n2, n3 => simp [kidC] at hk
        | 20, hl, hT, hk, n0, n1, n2, n3 => simp [kidC] at hk
        | 21, hl, hT, hk, n0, n1, n2, n3 => simp [kidC] at hk
        | 22, hl, hT, hk, n0, n1, n2, n3 => simp [kidC] at hk
        | 23, hl, hT, hk, n0, n1, n2, n3 => simp [kidC] at hk
        | 24, hl, hT, hk, n0, n1, n2, n3 => simp [kidC] at hk
        | 25, hl, hT, hk, n0, n1, n2, n3 => simp [kidC] at hk
        | 26, hl, hT, hk, n0, n1, n2, n3 => simp [kidC] at hk
        | n + 27, hl, hT, hk, n0, n1, n2, n3 => exact hl.elim
    obtain ⟨t, a', b', k'⟩ := q
    match t, hl, hT, hx, n0, n1, n2, n3 with
    | 0, hl, hT, hx, n0, n1, n2, n3 => exact hx
    | 1, hl, hT, hx, n0, n1, n2, n3 => exact hx
    | 2, hl, hT, hx, n0, n1, n2, n3 => exact hx
    | 3, hl, hT, hx, n0, n1, n2, n3 => exact hx
    | 4, hl, hT, hx, n0, n1, n2, n3 => exact hx
    | 5, hl, hT, hx, n0, n1, n2, n3 => exact hx
    | 6, hl, hT, hx, n0, n1, n2, n3 => exact hx
    | 7, hl, hT, hx, n0, n1, n2, n3 => exact hx
    | 8, hl, hT, hx, n0, n1, n2, n3 => exact hx
    | 9, hl, hT, hx, n0, n1, n2, n3 => exact hx
    | 10, hl, hT, hx, n0, n1, n2, n3 =>
      have hx9 : ¬ (a' = a ∧ b' = b) := fun z => hT (by obtain ⟨_, _, h3⟩ := hl; obtain ⟨z1, z2⟩ := z; subst z1; subst z2; subst h3; rfl)
      show x = Option.some (.inr (2, [_, va_rf (oS (se' a' b' 0) _), va_rf (oS (se' a' b' 1) _), va_rf (oS (se' a' b' 2) _), _, _, _, _, _, _, _]))
      rw [hoth _ _ _ hx9, hoth _ _ _ hx9, hoth _ _ _ hx9]; exact hx
    | 11, hl, hT, hx, n0, n1, n2, n3 => exact hx
    | 12, hl, hT, hx, n0, n1, n2, n3 => exact hx
    | 13, hl, hT, hx, n0, n1, n2, n3 =>
      have kq : ∀ z9, se' a' b' k' = Option.some z9 → s.c.se a' b' k' = Option.some z9 := by
        intro z9 hz9
        by_cases hab : a' = a ∧ b' = b
        · obtain ⟨z1, z2⟩ := hab
          subst z1; subst z2
          have hk8 : k' < 3 := hl.2.2.1
          have hk9 : k' = 0 ∨ k' = 1 ∨ k' = 2 := by omega
          rcases hk9 with z3 | z3 | z3 <;> subst z3
          · first | exact absurd rfl n0 | exact absurd rfl n1 | exact absurd rfl n2 | exact absurd rfl n3 | (rw [h0] at hz9; exact hz9) | (rw [h0] at hz9; cases hz9)
          · first | exact absurd rfl n0 | exact absurd rfl n1 | exact absurd rfl n2 | exact absurd rfl n3 | (rw [h1] at hz9; exact hz9) | (rw [h1] at hz9; cases hz9)
          · first | exact absurd rfl n0 | exact absurd rfl n1 | exact absurd rfl n2 | exact absurd rfl n3 | (rw [h2] at hz9; exact hz9) | (rw [h2] at hz9; cases hz9)
        · rw [hoth _ _ _ hab] at hz9; exact hz9
      intro z9 hz9
      exact hx z9 (kq z9 hz9)
    | 14, hl, hT, hx, n0, n1, n2, n3 =>
      have kq : ∀ z9, se' a' b' k' = Option.some z9 → s.c.se a' b' k' = Option.some z9 := by
        intro z9 hz9
        by_cases hab : a' = a ∧ b' = b
        · obtain ⟨z1, z2⟩ := hab
          subst z1; subst z2
          have hk8 : k' < 3 := hl.2.2.1
          have hk9 : k' = 0 ∨ k' = 1 ∨ k' = 2 := by omega
          rcases hk9 with z3 | z3 | z3 <;> subst z3
          · first | exact absurd rfl n0 | exact absurd rfl n1 | exact absurd rfl n2 | exact absurd rfl n3 | (rw [h0] at hz9; exact hz9) | (rw [h0] at hz9; cases hz9)
          · first | exact absurd rfl n0 | exact absurd rfl n1 | exact absurd rfl n2 | exact absurd rfl n3 | (rw [h1] at hz9; exact hz9) | (rw [h1] at hz9; cases hz9)
          · first | exact absurd rfl n0 | exact absurd rfl n1 | exact absurd rfl n2 | exact absurd rfl n3 | (rw [h2] at hz9; exact hz9) | (rw [h2] at hz9; cases hz9)
        · rw [hoth _ _ _ hab] at hz9; exact hz9
      intro z9 hz9
      exact hx z9 (kq z9 hz9)
    | 15, hl, hT, hx, n0, n1, n2, n3 => exact hx
    | 16, hl, hT, hx, n0, n1, n2, n3 => exact hx
    | 17, hl, hT, hx, n0, n1, n2, n3 => exact hx
    | 18, hl, hT, hx, n0, n1, n2, n3 => exact hx
    | 19, hl, hT, hx, n0, n1, n2, n3 => exact hx
    | 20, hl, hT, hx, n0, n1, n2, n3 => exact hx
    | 21, hl, hT, hx, n0, n1, n2, n3 => exact hx
    | 22, hl, hT, hx, n0, n1, n2, n3 => exact hx
    | 23, hl, hT, hx, n0, n1, n2, n3 => exact hx
    | 24, hl, hT, hx, n0, n1, n2, n3 => exact hx
    | 25, hl, hT, hx, n0, n1, n2, n3 => exact hx
    | 26, hl, hT, hx, n0, n1, n2, n3 => exact hx
    | n + 27, hl, hT, hx, n0, n1, n2, n3 => exact hl.elim
