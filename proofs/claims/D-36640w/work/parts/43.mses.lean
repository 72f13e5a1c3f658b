/-! THE PLAIN LAW, 13: packets and sessions on the side of the plain tables (printed by gen/mkspec7.py) -/
set_option maxRecDepth 100000
theorem mxok_nw {c : Sg} {a b : Nat} {v : Nat} {wt' : Nat → Nat → Nat → Pk} {j a' i : Nat} {x : Int32} (hj : j < 10) (hx : j = 9 → ¬ a' = a) (h : mxok c j a' i x) : mxok ((c.s_nw (upd2 c.nw a b v)).s_wt wt') j a' i x := by
  match j, hj, hx, h with
  | 0, _, _, h => exact h
  | 1, _, _, h => exact h
  | 2, _, _, h => exact h
  | 3, _, _, h => exact h
  | 4, _, _, h => exact h
  | 5, _, _, h => exact h
  | 6, _, _, h => exact h
  | 7, _, _, h => exact h
  | 8, _, _, h => exact h
  | 9, _, hx, h => exact Eq.trans h (congrArg nI (upd2_n (fun z => hx rfl z.1)).symm)
  | n + 10, hj, _, _ => omega
theorem R.mw_add {A ad : Ro → Nat} {s : Wo} {w w' : Hp} {a b g : Nat} {p : Pk} {f' : Nat → Option Nat} (h : R A ad s w) (ha : a < 3) (hb : b < 3) (ag : ∀ r, Lv s r → ad r ≠ g) (hg : okA (w' g) 0 3 (fun f => f 0 = p.src ∧ f 1 = p.dst ∧ f 2 = p.ld)) (hpk : w' (ad (m_pk2 a b)) = Option.some (aP 7 4 f')) (hf : ∀ k, k < (s.m.nw a b) → f' k = Option.some (ad (m_pk3 a b k))) (hfn : f' (s.m.nw a b) = Option.some g) (hmx : okA (w' (ad (m_mxr 9 a))) 0 3 (fun f => ∀ i, i < 3 → f i = nI (upd2 s.m.nw a b ((s.m.nw a b) + 1) a i)))
    (hw : ∀ q, q ≠ ad (m_pk2 a b) → q ≠ ad (m_mxr 9 a) → q ≠ g → w' q = w q)
    (hro : ∀ a, w' a = Option.some roE → a = ad c_e) : R A (srM ad (fun q => if q = (14, a, b, (s.m.nw a b)) then .inr g else .inl q)) ((((s.s_m ((s.m.s_nw (upd2 s.m.nw a b ((s.m.nw a b) + 1))).s_wt (upd3 s.m.wt a b (s.m.nw a b) p))).s_th s.th).s_sm s.sm).s_o s.o) w' := by
  obtain ⟨src, hsrc⟩ : ∃ z : Rq → Rq ⊕ Nat, z = fun q => if q = (14, a, b, (s.m.nw a b)) then .inr g else .inl q := ⟨_, rfl⟩
  rw [← hsrc]
  have m0 : src (14, a, b, (s.m.nw a b)) = .inr g := by
    rw [hsrc]; show (if _ = _ then _ else _) = _
    rw [if_pos rfl]
  have mn : ∀ q, q ≠ (14, a, b, (s.m.nw a b)) → src q = .inl q := by
    intro q n0
    rw [hsrc]
    show (if _ = _ then _ else _) = _
    rw [if_neg n0]
  have v0 : srM ad src (m_pk3 a b (s.m.nw a b)) = g := srM_n m0
  have vn : ∀ q, q ≠ (14, a, b, (s.m.nw a b)) → srM ad src (.inr q) = ad (.inr q) := fun q n0 => srM_o (mn q n0)
  refine h.genM2 ((s.m.s_nw (upd2 s.m.nw a b ((s.m.nw a b) + 1))).s_wt (upd3 s.m.wt a b (s.m.nw a b) p)) s.th s.sm s.o src (fun q => q = (13, a, b, 0) ∨ q = (10, 9, a, 0)) ?_ ?_ ?_ ?_ ?_ ?_ ?_ hro
  · intro q hq
    exact mn q (fun z => by subst z; exact absurd (show false = true from hq) (by decide))
  · intro q q0 hl e
    by_cases n0 : q = (14, a, b, (s.m.nw a b))
    · subst n0; rw [m0] at e
      cases e
    rw [mn q n0] at e
    cases e
    obtain ⟨t, a', b', k'⟩ := q
    match t, hl, n0 with
    | 0, hl, n0 => exact hl
    | 1, hl, n0 => exact hl
    | 2, hl, n0 => exact hl
    | 3, hl, n0 => exact hl
    | 4, hl, n0 => exact hl
    | 5, hl, n0 => exact hl
    | 6, hl, n0 => exact hl
    | 7, hl, n0 => exact hl
    | 8, hl, n0 => exact hl
    | 9, hl, n0 => exact hl
    | 10, hl, n0 => exact hl
    | 11, hl, n0 => exact hl
    | 12, hl, n0 => exact hl
    | 13, hl, n0 => exact hl
    | 14, hl, n0 =>
      obtain ⟨h1, h2, h3⟩ := hl
      have h5 : k' < upd2 s.m.nw a b (s.m.nw a b + 1) a' b' := h3
      by_cases hx9 : a' = a ∧ b' = b
      · obtain ⟨z1, z2⟩ := hx9
        subst z1; subst z2
        rw [upd2_s] at h5
        have h4 : k' ≠ s.m.nw a' b' := fun z => n0 (by subst z; rfl)
        exact ⟨h1, h2, by show k' < s.m.nw a' b'; omega⟩
      · rw [upd2_n hx9] at h5; exact ⟨h1, h2, h5⟩
    | 15, hl, n0 => exact hl
    | 16, hl, n0 => exact hl
    | 17, hl, n0 => exact hl
    | 18, hl, n0 => exact hl
    | 19, hl, n0 => exact hl
    | 20, hl, n0 => exact hl
    | 21, hl, n0 => exact hl
    | 22, hl, n0 => exact hl
    | 23, hl, n0 => exact hl
    | 24, hl, n0 => exact hl
    | 25, hl, n0 => exact hl
    | 26, hl, n0 => exact hl
    | 27, hl, n0 => exact hl
    | n + 28, hl, n0 => exact hl.elim
  · intro q g hl e r hr
    by_cases n0 : q = (14, a, b, (s.m.nw a b))
    · subst n0; rw [m0] at e; cases e; exact ag r hr
    rw [mn q n0] at e; cases e
  · intro q q' hl hl' e
    by_cases n0 : q = (14, a, b, (s.m.nw a b))
    · subst n0; rw [m0] at e
      by_cases p0 : q' = (14, a, b, (s.m.nw a b))
      · exact p0.symm
      rw [mn q' p0] at e
      cases e
    rw [mn q n0] at e
    by_cases p0 : q' = (14, a, b, (s.m.nw a b))
    · subst p0; rw [m0] at e; cases e
    rw [mn q' p0] at e
    exact Sum.inl.inj e
  · intro r hl hT
    exact hw _ (fun z => hT _ (h.inj _ _ hl (show Lv s (m_pk2 a b) from l_m_pk2 (s := s) ha hb) z) (Or.inl rfl)) (fun z => hT _ (h.inj _ _ hl (show Lv s (m_mxr 9 a) from l_m_mxr (s := s) (a := 9) (by decide) ha) z) (Or.inr rfl)) (ag r hl)
  · intro q hl hm
    by_cases n0 : q = (14, a, b, (s.m.nw a b))
    · subst n0
      rw [show srM ad src (.inr (14, a, b, s.m.nw a b)) = g from v0]
      show okA (w' g) 0 3 (fun f => f 0 = (upd3 s.m.wt a b (s.m.nw a b) p a b (s.m.nw a b)).src ∧ f 1 = (upd3 s.m.wt a b (s.m.nw a b) p a b (s.m.nw a b)).dst ∧ f 2 = (upd3 s.m.wt a b (s.m.nw a b) p a b (s.m.nw a b)).ld)
      rw [upd3_s]; exact hg
    rcases hm with hm | hm
    · exact absurd (mn q n0) hm
    rcases hm with rfl | rfl
    · rw [show srM ad src (.inr (13, a, b, 0)) = ad (m_pk2 a b) from vn _ (fun z => by simp at z)]
      show okP (w' (ad (m_pk2 a b))) 7 4 (upd2 s.m.nw a b ((s.m.nw a b) + 1) a b) (fun k => srM ad src (m_pk3 a b k))
      rw [upd2_s]
      refine ⟨f', hpk, fun k hk => ?_⟩
      by_cases hx9 : k = (s.m.nw a b)
      · subst hx9; exact hfn.trans (congrArg Option.some v0.symm)
      · exact (hf k (by omega)).trans (congrArg Option.some (vn (14, a, b, k) (fun z => hx9 (by simpa using z))).symm)
    · rw [show srM ad src (.inr (10, 9, a, 0)) = ad (m_mxr 9 a) from vn _ (fun z => by simp at z)]
      exact hmx
  · intro q x hl hm hT hx
    have n0 : q ≠ (14, a, b, (s.m.nw a b)) := fun z => by subst z; rw [m0] at hm; cases hm
    have hx : OkM s.m s.th s.sm s.o (srM ad src) x q := by
      refine OkM.congr2 (fun q9 hk => vn q9 (fun z => ?_)) hx
      · subst z
        obtain ⟨t, a', b', k'⟩ := q
        match t, hl, hT, hk, n0 with
        | 0, hl, hT, hk, n0 => simp [kidM] at hk
        | 1, hl, hT, hk, n0 => simp [kidM] at hk
        | 2, hl, hT, hk, n0 => simp [kidM] at hk
        | 3, hl, hT, hk, n0 => simp [kidM] at hk
        | 4, hl, hT, hk, n0 => simp [kidM] at hk
        | 5, hl, hT, hk, n0 => simp [kidM] at hk
        | 6, hl, hT, hk, n0 => simp [kidM] at hk
        | 7, hl, hT, hk, n0 => simp [kidM] at hk
        | 8, hl, hT, hk, n0 => simp [kidM] at hk
        | 9, hl, hT, hk, n0 => simp [kidM] at hk
        | 10, hl, hT, hk, n0 => simp [kidM] at hk
        | 11, hl, hT, hk, n0 => simp [kidM] at hk
        | 12, hl, hT, hk, n0 => simp [kidM] at hk
        | 13, hl, hT, hk, n0 =>
          obtain ⟨x9, hk⟩ := hk
          have h9 : a' = a ∧ b' = b := by
            simp at hk
            exact ⟨hk.1.symm, hk.2.1.symm⟩
          obtain ⟨z1, z2⟩ := h9
          exact hT (Or.inl (by obtain ⟨_, _, h3⟩ := hl; have h3 : k' = 0 := h3; subst z1; subst z2; subst h3; rfl))
        | 14, hl, hT, hk, n0 => simp [kidM] at hk
        | 15, hl, hT, hk, n0 => simp [kidM] at hk
        | 16, hl, hT, hk, n0 => simp [kidM] at hk
        | 17, hl, hT, hk, n0 => simp [kidM] at hk
        | 18, hl, hT, hk, n0 => simp [kidM] at hk
        | 19, hl, hT, hk, n0 => simp [kidM] at hk
        | 20, hl, hT, hk, n0 => simp [kidM] at hk
        | 21, hl, hT, hk, n0 => simp [kidM] at hk
        | 22, hl, hT, hk, n0 => simp [kidM] at hk
        | 23, hl, hT, hk, n0 => simp [kidM] at hk
        | 24, hl, hT, hk, n0 => simp [kidM] at hk
        | 25, hl, hT, hk, n0 => simp [kidM] at hk
        | 26, hl, hT, hk, n0 => simp [kidM] at hk
        | 27, hl, hT, hk, n0 => simp [kidM] at hk
        | n + 28, hl, hT, hk, n0 => exact hl.elim
    obtain ⟨t, a', b', k'⟩ := q
    match t, hl, hT, hx, n0 with
    | 0, hl, hT, hx, n0 => exact hx
    | 1, hl, hT, hx, n0 => exact hx
    | 2, hl, hT, hx, n0 => exact hx
    | 3, hl, hT, hx, n0 => exact hx
    | 4, hl, hT, hx, n0 => exact hx
    | 5, hl, hT, hx, n0 => exact hx
    | 6, hl, hT, hx, n0 => exact hx
    | 7, hl, hT, hx, n0 => exact hx
    | 8, hl, hT, hx, n0 => exact hx
    | 9, hl, hT, hx, n0 => exact hx
    | 10, hl, hT, hx, n0 =>
      obtain ⟨h1, _, h3⟩ := hl
      have h1 : a' < 10 := h1
      have h3 : k' = 0 := h3
      subst h3
      obtain ⟨f9, h5, h6⟩ := hx
      exact ⟨f9, h5, fun i hi => mxok_nw h1 (fun z1 z2 => hT (Or.inr (by have z3 : a' = 9 := z1; have z4 : b' = a := z2; rw [z3, z4]))) (h6 i hi)⟩
    | 11, hl, hT, hx, n0 => exact hx
    | 12, hl, hT, hx, n0 => exact hx
    | 13, hl, hT, hx, n0 =>
      have hx9 : ¬ (a' = a ∧ b' = b) := fun z => hT (Or.inl (by obtain ⟨_, _, h3⟩ := hl; have h3 : k' = 0 := h3; obtain ⟨z1, z2⟩ := z; subst z1; subst z2; subst h3; rfl))
      show okP x 7 4 (upd2 s.m.nw a b _ a' b') _
      rw [upd2_n hx9]; exact hx
    | 14, hl, hT, hx, n0 =>
      have hx9 : ¬ (a' = a ∧ b' = b ∧ k' = (s.m.nw a b)) := fun z => n0 (by obtain ⟨z1, z2, z3⟩ := z; subst z1; subst z2; subst z3; rfl)
      show okA x 0 3 (fun f => f 0 = (upd3 s.m.wt a b (s.m.nw a b) p a' b' k').src ∧ f 1 = (upd3 s.m.wt a b (s.m.nw a b) p a' b' k').dst ∧ f 2 = (upd3 s.m.wt a b (s.m.nw a b) p a' b' k').ld)
      rw [upd3_n hx9]; exact hx
    | 15, hl, hT, hx, n0 => exact hx
    | 16, hl, hT, hx, n0 => exact hx
    | 17, hl, hT, hx, n0 => exact hx
    | 18, hl, hT, hx, n0 => exact hx
    | 19, hl, hT, hx, n0 => exact hx
    | 20, hl, hT, hx, n0 => exact hx
    | 21, hl, hT, hx, n0 => exact hx
    | 22, hl, hT, hx, n0 => exact hx
    | 23, hl, hT, hx, n0 => exact hx
    | 24, hl, hT, hx, n0 => exact hx
    | 25, hl, hT, hx, n0 => exact hx
    | 26, hl, hT, hx, n0 => exact hx
    | 27, hl, hT, hx, n0 => exact hx
    | n + 28, hl, hT, hx, n0 => exact hl.elim
theorem R.mw_first {A ad : Ro → Nat} {s : Wo} {w w' : Hp} {a b : Nat} {f' : Nat → Option Nat} (h : R A ad s w) (ha : a < 3) (hb : b < 3) (hpk : w' (ad (m_pk2 a b)) = Option.some (aP 7 4 f')) (hf : ∀ k, k < (s.m.nw a b) - 1 → f' k = Option.some (ad (m_pk3 a b (k + 1)))) (hmx : okA (w' (ad (m_mxr 9 a))) 0 3 (fun f => ∀ i, i < 3 → f i = nI (upd2 s.m.nw a b ((s.m.nw a b) - 1) a i)))
    (hw : ∀ q, q ≠ ad (m_pk2 a b) → q ≠ ad (m_mxr 9 a) → w' q = w q)
    (hro : ∀ a, w' a = Option.some roE → a = ad c_e) : R A (srM ad (fun q => if q.1 = 14 ∧ q.2.1 = a ∧ q.2.2.1 = b then .inl (q.1, q.2.1, q.2.2.1, q.2.2.2 + 1) else .inl q)) ((((s.s_m ((s.m.s_nw (upd2 s.m.nw a b ((s.m.nw a b) - 1))).s_wt (shW s.m.wt a b))).s_th s.th).s_sm s.sm).s_o s.o) w' := by
  obtain ⟨src, hsrc⟩ : ∃ z : Rq → Rq ⊕ Nat, z = fun q => if q.1 = 14 ∧ q.2.1 = a ∧ q.2.2.1 = b then .inl (q.1, q.2.1, q.2.2.1, q.2.2.2 + 1) else .inl q := ⟨_, rfl⟩
  rw [← hsrc]
  have my : ∀ q : Rq, q.1 = 14 ∧ q.2.1 = a ∧ q.2.2.1 = b → src q = .inl (q.1, q.2.1, q.2.2.1, q.2.2.2 + 1) := fun q hq => by rw [hsrc]; exact if_pos hq
  have mn : ∀ q : Rq, ¬ (q.1 = 14 ∧ q.2.1 = a ∧ q.2.2.1 = b) → src q = .inl q := fun q hq => by rw [hsrc]; exact if_neg hq
  have vy : ∀ q : Rq, q.1 = 14 ∧ q.2.1 = a ∧ q.2.2.1 = b → srM ad src (.inr q) = ad (.inr (q.1, q.2.1, q.2.2.1, q.2.2.2 + 1)) := fun q hq => srM_o (my q hq)
  have vn : ∀ q : Rq, ¬ (q.1 = 14 ∧ q.2.1 = a ∧ q.2.2.1 = b) → srM ad src (.inr q) = ad (.inr q) := fun q hq => srM_o (mn q hq)
  have lvs : ∀ q : Rq, LvM ((s.m.s_nw (upd2 s.m.nw a b ((s.m.nw a b) - 1))).s_wt (shW s.m.wt a b)) q → q.1 = 14 ∧ q.2.1 = a ∧ q.2.2.1 = b → LvM s.m (q.1, q.2.1, q.2.2.1, q.2.2.2 + 1) := by
    rintro ⟨t, a', b', k'⟩ hl ⟨z1, z2, z3⟩
    have z1 : t = 14 := z1
    have z2 : a' = a := z2
    have z3 : b' = b := z3
    subst z1; subst z2; subst z3
    obtain ⟨h1, h2, h3⟩ := hl
    have h5 : k' < upd2 s.m.nw a' b' (s.m.nw a' b' - 1) a' b' := h3
    rw [upd2_s] at h5
    exact ⟨h1, h2, by show k' + 1 < s.m.nw a' b'; omega⟩
  refine h.genM2 ((s.m.s_nw (upd2 s.m.nw a b ((s.m.nw a b) - 1))).s_wt (shW s.m.wt a b)) s.th s.sm s.o src (fun q => q = (13, a, b, 0) ∨ q = (10, 9, a, 0)) ?_ ?_ ?_ ?_ ?_ ?_ ?_ hro
  · intro q hq
    refine mn q (fun z => ?_)
    obtain ⟨t, q2⟩ := q
    have z1 : t = 14 := z.1
    subst z1; exact absurd (show false = true from hq) (by decide)
  · intro q q0 hl e
    by_cases n0 : q.1 = 14 ∧ q.2.1 = a ∧ q.2.2.1 = b
    · rw [my q n0] at e; cases e; exact lvs q hl n0
    rw [mn q n0] at e; cases e
    obtain ⟨t, a', b', k'⟩ := q
    match t, hl, n0 with
    | 0, hl, n0 => exact hl
    | 1, hl, n0 => exact hl
    | 2, hl, n0 => exact hl
    | 3, hl, n0 => exact hl
    | 4, hl, n0 => exact hl
    | 5, hl, n0 => exact hl
    | 6, hl, n0 => exact hl
    | 7, hl, n0 => exact hl
    | 8, hl, n0 => exact hl
    | 9, hl, n0 => exact hl
    | 10, hl, n0 => exact hl
    | 11, hl, n0 => exact hl
    | 12, hl, n0 => exact hl
    | 13, hl, n0 => exact hl
    | 14, hl, n0 =>
      have hx9 : ¬ (a' = a ∧ b' = b) := fun z => n0 ⟨rfl, z.1, z.2⟩
      obtain ⟨h1, h2, h3⟩ := hl
      have h5 : k' < upd2 s.m.nw a b (s.m.nw a b - 1) a' b' := h3
      rw [upd2_n hx9] at h5; exact ⟨h1, h2, h5⟩
    | 15, hl, n0 => exact hl
    | 16, hl, n0 => exact hl
    | 17, hl, n0 => exact hl
    | 18, hl, n0 => exact hl
    | 19, hl, n0 => exact hl
    | 20, hl, n0 => exact hl
    | 21, hl, n0 => exact hl
    | 22, hl, n0 => exact hl
    | 23, hl, n0 => exact hl
    | 24, hl, n0 => exact hl
    | 25, hl, n0 => exact hl
    | 26, hl, n0 => exact hl
    | 27, hl, n0 => exact hl
    | n + 28, hl, n0 => exact hl.elim
  · intro q g hl e r hr
    by_cases n0 : q.1 = 14 ∧ q.2.1 = a ∧ q.2.2.1 = b
    · rw [my q n0] at e; cases e
    · rw [mn q n0] at e; cases e
  · intro q q' hl hl' e
    obtain ⟨t, a1, b1, k1⟩ := q
    obtain ⟨t', a2, b2, k2⟩ := q'
    by_cases n0 : ((t, a1, b1, k1) : Rq).1 = 14 ∧ ((t, a1, b1, k1) : Rq).2.1 = a ∧ ((t, a1, b1, k1) : Rq).2.2.1 = b <;> by_cases n1 : ((t', a2, b2, k2) : Rq).1 = 14 ∧ ((t', a2, b2, k2) : Rq).2.1 = a ∧ ((t', a2, b2, k2) : Rq).2.2.1 = b
    · rw [my _ n0, my _ n1] at e; have e := Sum.inl.inj e; simp only [Prod.mk.injEq] at e n0 n1 ⊢; omega
    · rw [my _ n0, mn _ n1] at e; have e := Sum.inl.inj e; simp only [Prod.mk.injEq] at e n0 n1 ⊢; omega
    · rw [mn _ n0, my _ n1] at e; have e := Sum.inl.inj e; simp only [Prod.mk.injEq] at e n0 n1 ⊢; omega
    · rw [mn _ n0, mn _ n1] at e; have e := Sum.inl.inj e; simp only [Prod.mk.injEq] at e n0 n1 ⊢; omega
  · intro r hl hT
    exact hw _ (fun z => hT _ (h.inj _ _ hl (show Lv s (m_pk2 a b) from l_m_pk2 (s := s) ha hb) z) (Or.inl rfl)) (fun z => hT _ (h.inj _ _ hl (show Lv s (m_mxr 9 a) from l_m_mxr (s := s) (a := 9) (by decide) ha) z) (Or.inr rfl))
  · intro q hl hm
    by_cases n0 : q.1 = 14 ∧ q.2.1 = a ∧ q.2.2.1 = b
    · have l0 := lvs q hl n0
      rw [vy q n0, hw _ (fun z => by have z1 := congrArg Prod.fst (Sum.inr.inj (h.inj _ _ (show Lv s (.inr _) from l0) (show Lv s (m_pk2 a b) from l_m_pk2 (s := s) ha hb) z)); have z2 := n0.1; simp only [] at z1; rw [z2] at z1; cases z1) (fun z => by have z1 := congrArg Prod.fst (Sum.inr.inj (h.inj _ _ (show Lv s (.inr _) from l0) (show Lv s (m_mxr 9 a) from l_m_mxr (s := s) (a := 9) (by decide) ha) z)); have z2 := n0.1; simp only [] at z1; rw [z2] at z1; cases z1)]
      have ok := h.ok _ (show Lv s (.inr _) from l0)
      obtain ⟨t, a', b', k'⟩ := q
      have z1 : t = 14 := n0.1
      subst z1
      obtain ⟨_, z2, z3⟩ := n0
      have z2 : a' = a := z2
      have z3 : b' = b := z3
      subst z2; subst z3
      show okA (w (ad (m_pk3 a' b' (k' + 1)))) 0 3 (fun f => f 0 = (shW s.m.wt a' b' a' b' k').src ∧ f 1 = (shW s.m.wt a' b' a' b' k').dst ∧ f 2 = (shW s.m.wt a' b' a' b' k').ld)
      rw [shW_s]; exact ok
    rcases hm with hm | hm
    · exact absurd (mn q n0) hm
    rcases hm with rfl | rfl
    · rw [show srM ad src (.inr (13, a, b, 0)) = ad (m_pk2 a b) from vn _ (fun z => by have z1 := z.1; cases z1)]
      show okP (w' (ad (m_pk2 a b))) 7 4 (upd2 s.m.nw a b ((s.m.nw a b) - 1) a b) (fun k => srM ad src (m_pk3 a b k))
      rw [upd2_s]
      exact ⟨f', hpk, fun k hk => (hf k hk).trans (congrArg Option.some (vy (14, a, b, k) ⟨rfl, rfl, rfl⟩).symm)⟩
    · rw [show srM ad src (.inr (10, 9, a, 0)) = ad (m_mxr 9 a) from vn _ (fun z => by have z1 := z.1; cases z1)]
      exact hmx
  · intro q x hl hm hT hx
    have n0 : ¬ (q.1 = 14 ∧ q.2.1 = a ∧ q.2.2.1 = b) := fun z => by
      rw [my q z] at hm; obtain ⟨t, a', b', k'⟩ := q; have e := Sum.inl.inj hm; simp only [Prod.mk.injEq] at e; omega
    have hx : OkM s.m s.th s.sm s.o (srM ad src) x q := by
      refine OkM.congr2 (fun q9 hk => vn q9 (fun z => ?_)) hx
      obtain ⟨t, a', b', k'⟩ := q
      match t, hl, hT, hk, n0 with
      | 0, hl, hT, hk, n0 => rcases hk with rfl | rfl | rfl | rfl | rfl | rfl | rfl | rfl | rfl | rfl | rfl | rfl | rfl | rfl | rfl | rfl | rfl | rfl | rfl | rfl | rfl <;> (have z1 := z.1; cases z1)
      | 1, hl, hT, hk, n0 => exact hk.elim
      | 2, hl, hT, hk, n0 => exact hk.elim
      | 3, hl, hT, hk, n0 => exact hk.elim
      | 4, hl, hT, hk, n0 => exact hk.elim
      | 5, hl, hT, hk, n0 => exact hk.elim
      | 6, hl, hT, hk, n0 => rcases hk with ⟨x9, rfl⟩ <;> (have z1 := z.1; cases z1)
      | 7, hl, hT, hk, n0 => rcases hk with ⟨x9, rfl⟩ <;> (have z1 := z.1; cases z1)
      | 8, hl, hT, hk, n0 => exact hk.elim
      | 9, hl, hT, hk, n0 => rcases hk with ⟨x9, rfl⟩ <;> (have z1 := z.1; cases z1)
      | 10, hl, hT, hk, n0 => exact hk.elim
      | 11, hl, hT, hk, n0 => rcases hk with ⟨x9, rfl⟩ <;> (have z1 := z.1; cases z1)
      | 12, hl, hT, hk, n0 => rcases hk with ⟨x9, rfl⟩ <;> (have z1 := z.1; cases z1)
      | 13, hl, hT, hk, n0 =>
        obtain ⟨x9, hk⟩ := hk
        subst hk
        obtain ⟨_, z1, z2⟩ := z
        have z1 : a' = a := z1
        have z2 : b' = b := z2
        exact hT (Or.inl (by obtain ⟨_, _, h3⟩ := hl; have h3 : k' = 0 := h3; subst z1; subst z2; subst h3; rfl))
      | 14, hl, hT, hk, n0 => exact hk.elim
      | 15, hl, hT, hk, n0 => rcases hk with ⟨x9, rfl⟩ <;> (have z1 := z.1; cases z1)
      | 16, hl, hT, hk, n0 => rcases hk with ⟨x9, rfl⟩ <;> (have z1 := z.1; cases z1)
      | 17, hl, hT, hk, n0 => rcases hk with ⟨x9, rfl⟩ <;> (have z1 := z.1; cases z1)
      | 18, hl, hT, hk, n0 => exact hk.elim
      | 19, hl, hT, hk, n0 => rcases hk with ⟨x9, rfl⟩ <;> (have z1 := z.1; cases z1)
      | 20, hl, hT, hk, n0 => rcases hk with ⟨x9, rfl⟩ <;> (have z1 := z.1; cases z1)
      | 21, hl, hT, hk, n0 => rcases hk with ⟨x9, rfl⟩ <;> (have z1 := z.1; cases z1)
      | 22, hl, hT, hk, n0 => exact hk.elim
      | 23, hl, hT, hk, n0 => rcases hk with ⟨x9, rfl⟩ <;> (have z1 := z.1; cases z1)
      | 24, hl, hT, hk, n0 => exact hk.elim
      | 25, hl, hT, hk, n0 => rcases hk with ⟨x9, rfl⟩ <;> (have z1 := z.1; cases z1)
      | 26, hl, hT, hk, n0 => exact hk.elim
      | 27, hl, hT, hk, n0 => exact hk.elim
      | n + 28, hl, hT, hk, n0 => exact hl.elim
    obtain ⟨t, a', b', k'⟩ := q
    match t, hl, hT, hx, n0 with
    | 0, hl, hT, hx, n0 => exact hx
    | 1, hl, hT, hx, n0 => exact hx
    | 2, hl, hT, hx, n0 => exact hx
    | 3, hl, hT, hx, n0 => exact hx
    | 4, hl, hT, hx, n0 => exact hx
    | 5, hl, hT, hx, n0 => exact hx
    | 6, hl, hT, hx, n0 => exact hx
    | 7, hl, hT, hx, n0 => exact hx
    | 8, hl, hT, hx, n0 => exact hx
    | 9, hl, hT, hx, n0 => exact hx
    | 10, hl, hT, hx, n0 =>
      obtain ⟨h1, _, h3⟩ := hl
      have h1 : a' < 10 := h1
      have h3 : k' = 0 := h3
      subst h3
      obtain ⟨f9, h5, h6⟩ := hx
      exact ⟨f9, h5, fun i hi => mxok_nw h1 (fun z1 z2 => hT (Or.inr (by have z3 : a' = 9 := z1; have z4 : b' = a := z2; rw [z3, z4]))) (h6 i hi)⟩
    | 11, hl, hT, hx, n0 => exact hx
    | 12, hl, hT, hx, n0 => exact hx
    | 13, hl, hT, hx, n0 =>
      have hx9 : ¬ (a' = a ∧ b' = b) := fun z => hT (Or.inl (by obtain ⟨_, _, h3⟩ := hl; have h3 : k' = 0 := h3; obtain ⟨z1, z2⟩ := z; subst z1; subst z2; subst h3; rfl))
      show okP x 7 4 (upd2 s.m.nw a b _ a' b') _
      rw [upd2_n hx9]; exact hx
    | 14, hl, hT, hx, n0 =>
      have hx9 : ¬ (a' = a ∧ b' = b) := fun z => n0 ⟨rfl, z.1, z.2⟩
      show okA x 0 3 (fun f => f 0 = (shW s.m.wt a b a' b' k').src ∧ f 1 = (shW s.m.wt a b a' b' k').dst ∧ f 2 = (shW s.m.wt a b a' b' k').ld)
      rw [shW_n hx9]; exact hx
    | 15, hl, hT, hx, n0 => exact hx
    | 16, hl, hT, hx, n0 => exact hx
    | 17, hl, hT, hx, n0 => exact hx
    | 18, hl, hT, hx, n0 => exact hx
    | 19, hl, hT, hx, n0 => exact hx
    | 20, hl, hT, hx, n0 => exact hx
    | 21, hl, hT, hx, n0 => exact hx
    | 22, hl, hT, hx, n0 => exact hx
    | 23, hl, hT, hx, n0 => exact hx
    | 24, hl, hT, hx, n0 => exact hx
    | 25, hl, hT, hx, n0 => exact hx
    | 26, hl, hT, hx, n0 => exact hx
    | 27, hl, hT, hx, n0 => exact hx
    | n + 28, hl, hT, hx, n0 => exact hl.elim
